/-! DatedContactsModel read back and walked (printed by gen/mo.py) -/
theorem mo_d_in : yX6_in.cls ≠ "java/lang/invoke/MethodHandle" ∧ yX6_in.cls ≠ "java/lang/invoke/VarHandle" ∧ (parseMethodDescriptor yX6_in.desc).map (fun d => d.parameters.length) = some 3 := by decide +kernel
set_option maxHeartbeats 4000000 in
set_option maxRecDepth 100000 in
theorem mo_m_in (l : Launch) (p0 : Int32) (p1 : Int32) (p2 : Int32) (r : Bool) (hF : mo_in p0 p1 p2 = some r) : dx_Pi l yX6_in cX6_in 3 .boolean ({ frames := 0, cells := 0, slots := 0, locals := 0 }) [.int p0, .int p1, .int p2] (dx_bI r) := by
  refine dx_in RX6 rfl (by decide) (Nat.le_of_ble_eq_true rfl) ?_
  intro p e s m below meth c ls S hr hlocks hv hl
  have hx := S.1
  have hb := S.2.1
  have hown := S.2.2.2.1
  have hts := S.2.2.2.2
  replace hl : lv_has ls 3 [(0, .int p0), (1, .int p1), (2, .int p2)] := hl
  unfold mo_in at hF
  refine lv_iload_n hx hb dX6_in_0 rfl (lv_at hl 0 rfl) ?_
  refine lv_iload_n hx hb dX6_in_1 rfl (lv_at hl 1 rfl) ?_
  refine lv_icmp_lt (tgt := 14) hx hb dX6_in_2 (by decide) (fun hc => ?_) (fun hc => ?_)
  · replace hF := (if_pos hc).symm.trans hF
    refine lv_iconst (v := 0) hx hb dX6_in_14 (by decide) ?_
    replace hF := Option.some.inj hF
    subst hF
    exact dx_rPi S hr hlocks rfl dX6_in_15
  · replace hF := (if_neg hc).symm.trans hF
    refine lv_iload_n hx hb dX6_in_5 rfl (lv_at hl 0 rfl) ?_
    refine lv_iload_n hx hb dX6_in_6 rfl (lv_at hl 2 rfl) ?_
    refine lv_icmp_gt (tgt := 14) hx hb dX6_in_7 (by decide) (fun hc => ?_) (fun hc => ?_)
    · replace hF := (if_pos hc).symm.trans hF
      refine lv_iconst (v := 0) hx hb dX6_in_14 (by decide) ?_
      replace hF := Option.some.inj hF
      subst hF
      exact dx_rPi S hr hlocks rfl dX6_in_15
    · replace hF := (if_neg hc).symm.trans hF
      refine lv_iconst (v := 1) hx hb dX6_in_10 (by decide) ?_
      refine lv_goto (tgt := 15) hx hb dX6_in_11 (by decide) ?_
      replace hF := Option.some.inj hF
      subst hF
      exact dx_rPi S hr hlocks rfl dX6_in_15
theorem mo_d_isRow : yX6_isRow.cls ≠ "java/lang/invoke/MethodHandle" ∧ yX6_isRow.cls ≠ "java/lang/invoke/VarHandle" ∧ (parseMethodDescriptor yX6_isRow.desc).map (fun d => d.parameters.length) = some 1 := by decide +kernel
set_option maxHeartbeats 4000000 in
set_option maxRecDepth 100000 in
theorem mo_m_isRow (l : Launch) (p0 : Int32) (r : Bool) (hF : mo_isRow p0 = some r) : dx_Pi l yX6_isRow cX6_isRow 1 .boolean ({ frames := 1, cells := 0, slots := 0, locals := 22 }) [.int p0] (dx_bI r) := by
  refine dx_in RX6 rfl (by decide) (Nat.le_of_ble_eq_true rfl) ?_
  intro p e s m below meth c ls S hr hlocks hv hl
  have hx := S.1
  have hb := S.2.1
  have hown := S.2.2.2.1
  have hts := S.2.2.2.2
  replace hl : lv_has ls 1 [(0, .int p0)] := hl
  unfold mo_isRow at hF
  refine lv_iload_n hx hb dX6_isRow_0 rfl (lv_at hl 0 rfl) ?_
  refine lv_iconst (v := 0) hx hb dX6_isRow_1 (by decide) ?_
  refine lv_bipush (v := 7) hx hb dX6_isRow_2 (by decide) ?_
  obtain ⟨r1, h1c, hF⟩ := dx_b1_some hF
  refine dx_cPi S [.int p0, .int (0 : Int32), .int (7 : Int32)] (mo_m_in l p0 (0 : Int32) (7 : Int32) _ h1c) (va_cwS 3 hts (lw_S q1711 q1712 q83 q1713) rfl rfl rfl mo_d_in ⟨Nat.le_of_ble_eq_true rfl, Nat.le_of_ble_eq_true rfl⟩) rfl rfl hl.1 (Nat.le_of_ble_eq_true rfl) dX6_isRow_4 ⟨Nat.zero_le _, Nat.zero_le _⟩ ?_
  replace hF := Option.some.inj hF
  subst hF
  exact dx_rPi S hr hlocks (dx_bI_nar _) dX6_isRow_7
theorem mo_d_found : yX6_found.cls = RX6 ∧ yX6_found.cls ≠ "java/lang/invoke/MethodHandle" ∧ yX6_found.cls ≠ "java/lang/invoke/VarHandle" ∧ (parseMethodDescriptor yX6_found.desc).map (fun d => d.parameters.length) = some 1 := by decide +kernel
set_option maxHeartbeats 4000000 in
set_option maxRecDepth 100000 in
theorem mo_m_found (l : Launch) (D : va_G) (di dz : ClassId) (h : Nat) (ad : Nat → Nat) (A : Nat → Prop)  (p0 : Int32) (σ0 : mo_S) (r : Int32) (σ' : mo_S) (hF : mo_found σ0 p0 = some (r, σ')) : mo_Ci l yX6_found cX6_found 2 .int ({ frames := 0, cells := 0, slots := 0, locals := 0 }) D di dz h ad A [.ref h, .int p0] σ0 r σ' := by
  refine dx_in RX6 rfl (by decide) (Nat.le_of_ble_eq_true rfl) ?_
  intro p e s m below meth c ls S hr hlocks hv hl
  have hx := S.1
  have hb := S.2.1
  have hown := S.2.2.2.1
  have hts := S.2.2.2.2
  obtain ⟨hK, hP, hD⟩ := hv
  have V : mo_V D di dz h ad A s.heap σ0 s s.heap [] := ⟨hK, hP, hD, va_S.rf⟩
  replace hl : lv_has ls 2 [(0, .ref h), (1, .int p0)] := hl
  unfold mo_found at hF
  refine lv_aload_n hx hb dX6_found_0 rfl (lv_at hl 0 rfl) ?_
  refine lv_iload_n hx hb dX6_found_1 rfl (lv_at hl 1 rfl) ?_
  refine mo_put S V 4 0 (by decide) rfl q1619 rfl rfl rfl dX6_found_2 (fun _ _ V => ?_)
  refine lv_ldc hx hb hown (hts _ q1719) dX6_found_5 ?_
  refine lv_iload_n hx hb dX6_found_7 rfl (lv_at hl 1 rfl) ?_
  refine lv_isub hx hb dX6_found_8 ?_
  obtain ⟨hF1, hF2⟩ := dx_r2 hF
  subst hF1
  subst hF2
  exact mo_ri S V hr hlocks rfl dX6_found_9
theorem mo_d_well : yX6_well.cls = RX6 ∧ yX6_well.cls ≠ "java/lang/invoke/MethodHandle" ∧ yX6_well.cls ≠ "java/lang/invoke/VarHandle" ∧ (parseMethodDescriptor yX6_well.desc).map (fun d => d.parameters.length) = some 1 := by decide +kernel
set_option maxHeartbeats 4000000 in
set_option maxRecDepth 100000 in
theorem mo_m_well (l : Launch) (D : va_G) (di dz : ClassId) (h : Nat) (ad : Nat → Nat) (A : Nat → Prop)  (p0 : Int32) (σ0 : mo_S) (r : Int32) (σ' : mo_S) (hF : mo_well σ0 p0 = some (r, σ')) : mo_Ci l yX6_well cX6_well 2 .int ({ frames := 0, cells := 0, slots := 0, locals := 0 }) D di dz h ad A [.ref h, .int p0] σ0 r σ' := by
  refine dx_in RX6 rfl (by decide) (Nat.le_of_ble_eq_true rfl) ?_
  intro p e s m below meth c ls S hr hlocks hv hl
  have hx := S.1
  have hb := S.2.1
  have hown := S.2.2.2.1
  have hts := S.2.2.2.2
  obtain ⟨hK, hP, hD⟩ := hv
  have V : mo_V D di dz h ad A s.heap σ0 s s.heap [] := ⟨hK, hP, hD, va_S.rf⟩
  replace hl : lv_has ls 2 [(0, .ref h), (1, .int p0)] := hl
  unfold mo_well at hF
  refine lv_aload_n hx hb dX6_well_0 rfl (lv_at hl 0 rfl) ?_
  refine lv_iconst (v := 0) hx hb dX6_well_1 (by decide) ?_
  refine mo_put S V 4 0 (by decide) rfl q1619 rfl rfl rfl dX6_well_2 (fun _ _ V => ?_)
  refine lv_iload_n hx hb dX6_well_5 rfl (lv_at hl 1 rfl) ?_
  obtain ⟨hF1, hF2⟩ := dx_r2 hF
  subst hF1
  subst hF2
  exact mo_ri S V hr hlocks rfl dX6_well_6
theorem mo_d_row : yX6_row.cls = RX6 ∧ yX6_row.cls ≠ "java/lang/invoke/MethodHandle" ∧ yX6_row.cls ≠ "java/lang/invoke/VarHandle" ∧ (parseMethodDescriptor yX6_row.desc).map (fun d => d.parameters.length) = some 3 := by decide +kernel
set_option maxHeartbeats 4000000 in
set_option maxRecDepth 100000 in
theorem mo_m_row (l : Launch) (D : va_G) (di dz : ClassId) (h : Nat) (ad : Nat → Nat) (A : Nat → Prop)  (p0 : Int32) (p1 : Int32) (p2 : Int32) (σ0 : mo_S) (r : Int32) (σ' : mo_S) (hF : mo_row σ0 p0 p1 p2 = some (r, σ')) : mo_Ci l yX6_row cX6_row 5 .int ({ frames := 2, cells := 0, slots := 0, locals := 42 }) D di dz h ad A [.ref h, .int p0, .int p1, .int p2] σ0 r σ' := by
  refine dx_in RX6 rfl (by decide) (Nat.le_of_ble_eq_true rfl) ?_
  intro p e s m below meth c ls S hr hlocks hv hl
  have hx := S.1
  have hb := S.2.1
  have hown := S.2.2.2.1
  have hts := S.2.2.2.2
  obtain ⟨hK, hP, hD⟩ := hv
  have V : mo_V D di dz h ad A s.heap σ0 s s.heap [] := ⟨hK, hP, hD, va_S.rf⟩
  replace hl : lv_has ls 5 [(0, .ref h), (1, .int p0), (2, .int p1), (3, .int p2)] := hl
  unfold mo_row at hF
  have hL52 : ∀ (v1 : Int32) (v3 : Int32) (n : Nat) (v4 : Int32) (σ : mo_S) (H : Heap) (locs : List Loc) (ls : Array Slot), dx_lp (fun x => mo_row_L52 x.2 v1 v3 x.1) n (v4, σ) = some (r, σ') → mo_V D di dz h ad A s.heap σ s H locs → lv_has ls 5 [(0, .ref h), (1, .int v1), (3, .int v3), (4, .int v4)] → W p l e ({ frames := 2, cells := 0, slots := 0, locals := 42 }) s m ([.ref h, .int p0, .int p1, .int p2] : List Value).toArray below meth c H locs 0 0 (MQ below (mo_Qi D di dz h ad A r σ') ([.ref h, .int p0, .int p1, .int p2] : List Value).toArray s 0 0 A) (F0 m 52 ls []) := by
    intro v1 v3 n
    induction n with
    | zero =>
      intro v4 σ H locs ls hF V hl
      exact (dx_lp_0 hF).elim
    | succ n ih52 =>
      intro v4 σ H locs ls hF V hl
      obtain ⟨y52, hF, hz52⟩ := dx_lp_s hF
      replace hF : mo_row_L52 σ v1 v3 v4 = some y52 := hF
      unfold mo_row_L52 at hF
      refine lv_iload hx hb dX6_row_52 (lv_at hl 3 rfl) ?_
      refine lv_bipush (v := 40) hx hb dX6_row_54 (by decide) ?_
      refine lv_icmp_ge (tgt := 78) hx hb dX6_row_56 (by decide) (fun hc => ?_) (fun hc => ?_)
      · replace hF := (if_pos hc).symm.trans hF
        replace hF := dx_ex_k hF hz52
        refine lv_aload_n hx hb dX6_row_78 rfl (lv_at hl 0 rfl) ?_
        refine lv_iload_n hx hb dX6_row_79 rfl (lv_at hl 2 rfl) ?_
        obtain ⟨r3, σ3, h3c, hF⟩ := dx_b2_some hF
        refine mo_cVi S V [.int v3] (mo_m_well l D di dz h ad A  v3 σ _ _ h3c) (cwV 1 hts (lw_V q1720 q1722 qs37 q83 q1723) rfl rfl rfl mo_d_well ⟨Nat.le_of_ble_eq_true rfl, Nat.le_of_ble_eq_true rfl⟩) rfl rfl hl.1 (Nat.le_of_ble_eq_true rfl) dX6_row_80 (fun _ _ V => ?_)
        obtain ⟨hF1, hF2⟩ := dx_r2 hF
        subst hF1
        subst hF2
        exact mo_ri S V hr hlocks rfl dX6_row_83
      · replace hF := (if_neg hc).symm.trans hF
        refine lv_aload_n hx hb dX6_row_59 rfl (lv_at hl 0 rfl) ?_
        refine mo_get S V 2 (by decide) rfl q1617 rfl dX6_row_60 ?_
        refine lv_bipush (v := 40) hx hb dX6_row_63 (by decide) ?_
        refine lv_iload_n hx hb dX6_row_65 rfl (lv_at hl 1 rfl) ?_
        refine lv_imul hx hb dX6_row_66 ?_
        refine lv_iload hx hb dX6_row_67 (lv_at hl 3 rfl) ?_
        refine lv_iadd hx hb dX6_row_69 ?_
        refine lv_iconst (v := 0) hx hb dX6_row_70 (by decide) ?_
        obtain ⟨hg, hF⟩ := dx_gd_some hF
        refine mo_st S V 2 (by decide) (dx_inb_in hg) dX6_row_71 (fun _ _ V => ?_)
        refine lv_iinc (v := (v4 + (1 : Int32))) (lv' := [(4, .int (v4 + (1 : Int32))), (0, .ref h), (1, .int v1), (3, .int v3)]) hx hb dX6_row_72 hl (k := 3) rfl rfl (by decide) rfl (fun ls hl => ?_)
        refine lv_goto (tgt := 52) hx hb dX6_row_75 (by decide) ?_
        replace hF := Option.some.inj hF
        subst hF
        exact ih52 (v4 + (1 : Int32)) (mo_A σ 2 ((((40 : Int32) * v1) + v4).toNatClampNeg) (0 : Int32)) _ _ _ (dx_lk_l hz52) V (lv_sub hl [1, 2, 3, 0] rfl)
  refine lv_iload_n hx hb dX6_row_0 rfl (lv_at hl 1 rfl) ?_
  obtain ⟨r1, h1c, hF⟩ := dx_b1_some hF
  refine dx_cPi S [.int p0] (mo_m_isRow l p0 _ h1c) (va_cwS 1 hts (lw_S q1708 q1709 q83 q1710) rfl rfl rfl mo_d_isRow ⟨Nat.le_of_ble_eq_true rfl, Nat.le_of_ble_eq_true rfl⟩) rfl rfl hl.1 (Nat.le_of_ble_eq_true rfl) dX6_row_1 ⟨Nat.zero_le _, Nat.zero_le _⟩ ?_
  refine lv_if_eq (tgt := 22) hx hb dX6_row_4 (by decide) (fun hc => ?_) (fun hc => ?_)
  · replace hF := dx_ib_f (dx_bI_0 hc) hF
    refine lv_ldc hx hb hown (hts _ q1714) dX6_row_22 ?_
    obtain ⟨hF1, hF2⟩ := dx_r2 hF
    subst hF1
    subst hF2
    exact mo_ri S V hr hlocks rfl dX6_row_24
  · replace hF := dx_ib_t (dx_bI_n hc) hF
    refine lv_iload_n hx hb dX6_row_7 rfl (lv_at hl 2 rfl) ?_
    refine lv_iconst (v := 0) hx hb dX6_row_8 (by decide) ?_
    refine lv_iconst (v := 2) hx hb dX6_row_9 (by decide) ?_
    obtain ⟨r2, h2c, hF⟩ := dx_b1_some hF
    refine dx_cPi S [.int p1, .int (0 : Int32), .int (2 : Int32)] (mo_m_in l p1 (0 : Int32) (2 : Int32) _ h2c) (va_cwS 3 hts (lw_S q1711 q1712 q83 q1713) rfl rfl rfl mo_d_in ⟨Nat.le_of_ble_eq_true rfl, Nat.le_of_ble_eq_true rfl⟩) rfl rfl hl.1 (Nat.le_of_ble_eq_true rfl) dX6_row_10 ⟨Nat.zero_le _, Nat.zero_le _⟩ ?_
    refine lv_if_eq (tgt := 22) hx hb dX6_row_13 (by decide) (fun hc => ?_) (fun hc => ?_)
    · replace hF := dx_ib_f (dx_bI_0 hc) hF
      refine lv_ldc hx hb hown (hts _ q1714) dX6_row_22 ?_
      obtain ⟨hF1, hF2⟩ := dx_r2 hF
      subst hF1
      subst hF2
      exact mo_ri S V hr hlocks rfl dX6_row_24
    · replace hF := dx_ib_t (dx_bI_n hc) hF
      refine lv_iload_n hx hb dX6_row_16 rfl (lv_at hl 3 rfl) ?_
      refine lv_bipush (v := 40) hx hb dX6_row_17 (by decide) ?_
      refine lv_icmp_le (tgt := 25) hx hb dX6_row_19 (by decide) (fun hc => ?_) (fun hc => ?_)
      · replace hF := (if_pos hc).symm.trans hF
        refine lv_iload_n hx hb dX6_row_25 rfl (lv_at hl 3 rfl) ?_
        refine lv_if_ge (tgt := 35) hx hb dX6_row_26 (by decide) (fun hc => ?_) (fun hc => ?_)
        · replace hF := (if_pos hc).symm.trans hF
          refine lv_aload_n hx hb dX6_row_35 rfl (lv_at hl 0 rfl) ?_
          refine mo_get S V 0 (by decide) rfl q1615 rfl dX6_row_36 ?_
          refine lv_iload_n hx hb dX6_row_39 rfl (lv_at hl 1 rfl) ?_
          refine lv_iload_n hx hb dX6_row_40 rfl (lv_at hl 2 rfl) ?_
          obtain ⟨hg, hF⟩ := dx_gd_some hF
          refine mo_st S V 0 (by decide) (dx_inb_in hg) dX6_row_41 (fun _ _ V => ?_)
          refine lv_aload_n hx hb dX6_row_42 rfl (lv_at hl 0 rfl) ?_
          refine mo_get S V 1 (by decide) rfl q1616 rfl dX6_row_43 ?_
          refine lv_iload_n hx hb dX6_row_46 rfl (lv_at hl 1 rfl) ?_
          refine lv_iload_n hx hb dX6_row_47 rfl (lv_at hl 3 rfl) ?_
          obtain ⟨hg, hF⟩ := dx_gd_some hF
          refine mo_st S V 1 (by decide) (dx_inb_in hg) dX6_row_48 (fun _ _ V => ?_)
          refine lv_iconst (v := 0) hx hb dX6_row_49 (by decide) ?_
          refine lv_istore (lv' := [(4, .int (0 : Int32)), (0, .ref h), (1, .int p0), (2, .int p1), (3, .int p2)]) hx hb dX6_row_50 hl (by decide) rfl (fun ls hl => ?_)
          exact hL52 p0 p2 dx_fu (0 : Int32) (mo_A (mo_A σ0 0 p0.toNatClampNeg p1) 1 p0.toNatClampNeg p2) _ _ _ hF V (lv_sub hl [1, 2, 4, 0] rfl)
        · replace hF := (if_neg hc).symm.trans hF
          refine lv_aload_n hx hb dX6_row_29 rfl (lv_at hl 0 rfl) ?_
          refine lv_iconst (v := 4) hx hb dX6_row_30 (by decide) ?_
          obtain ⟨r4, σ4, h4c, hF⟩ := dx_b2_some hF
          refine mo_cVi S V [.int (4 : Int32)] (mo_m_found l D di dz h ad A  (4 : Int32) σ0 _ _ h4c) (cwV 1 hts (lw_V q1715 q1717 qs36 q83 q1718) rfl rfl rfl mo_d_found ⟨Nat.le_of_ble_eq_true rfl, Nat.le_of_ble_eq_true rfl⟩) rfl rfl hl.1 (Nat.le_of_ble_eq_true rfl) dX6_row_31 (fun _ _ V => ?_)
          obtain ⟨hF1, hF2⟩ := dx_r2 hF
          subst hF1
          subst hF2
          exact mo_ri S V hr hlocks rfl dX6_row_34
      · replace hF := (if_neg hc).symm.trans hF
        refine lv_ldc hx hb hown (hts _ q1714) dX6_row_22 ?_
        obtain ⟨hF1, hF2⟩ := dx_r2 hF
        subst hF1
        subst hF2
        exact mo_ri S V hr hlocks rfl dX6_row_24
theorem mo_d_isMissing : yX6_isMissing.cls = RX6 ∧ yX6_isMissing.cls ≠ "java/lang/invoke/MethodHandle" ∧ yX6_isMissing.cls ≠ "java/lang/invoke/VarHandle" ∧ (parseMethodDescriptor yX6_isMissing.desc).map (fun d => d.parameters.length) = some 1 := by decide +kernel
set_option maxHeartbeats 4000000 in
set_option maxRecDepth 100000 in
theorem mo_m_isMissing (l : Launch) (D : va_G) (di dz : ClassId) (h : Nat) (ad : Nat → Nat) (A : Nat → Prop)  (p0 : Int32) (σ0 : mo_S) (r : Bool) (hF : mo_isMissing σ0 p0 = some r) : mo_Ci l yX6_isMissing cX6_isMissing 2 .boolean ({ frames := 0, cells := 0, slots := 0, locals := 0 }) D di dz h ad A [.ref h, .int p0] σ0 (dx_bI r) σ0 := by
  refine dx_in RX6 rfl (by decide) (Nat.le_of_ble_eq_true rfl) ?_
  intro p e s m below meth c ls S hr hlocks hv hl
  have hx := S.1
  have hb := S.2.1
  have hown := S.2.2.2.1
  have hts := S.2.2.2.2
  obtain ⟨hK, hP, hD⟩ := hv
  have V : mo_V D di dz h ad A s.heap σ0 s s.heap [] := ⟨hK, hP, hD, va_S.rf⟩
  replace hl : lv_has ls 2 [(0, .ref h), (1, .int p0)] := hl
  unfold mo_isMissing at hF
  refine lv_aload_n hx hb dX6_isMissing_0 rfl (lv_at hl 0 rfl) ?_
  refine mo_get S V 0 (by decide) rfl q1615 rfl dX6_isMissing_1 ?_
  refine lv_iload_n hx hb dX6_isMissing_4 rfl (lv_at hl 1 rfl) ?_
  obtain ⟨hg, hF⟩ := dx_gd_some hF
  refine mo_ld S V 0 (by decide) (dx_inb_in hg) dX6_isMissing_5 ?_
  refine lv_ldc hx hb hown (hts _ q1614) dX6_isMissing_6 ?_
  refine lv_icmp_ne (tgt := 15) hx hb dX6_isMissing_8 (by decide) (fun hc => ?_) (fun hc => ?_)
  · replace hF := (if_neg hc).symm.trans hF
    refine lv_iconst (v := 0) hx hb dX6_isMissing_15 (by decide) ?_
    replace hF := Option.some.inj hF
    subst hF
    exact mo_ri S V hr hlocks rfl dX6_isMissing_16
  · replace hF := (if_pos hc).symm.trans hF
    refine lv_iconst (v := 1) hx hb dX6_isMissing_11 (by decide) ?_
    refine lv_goto (tgt := 16) hx hb dX6_isMissing_12 (by decide) ?_
    replace hF := Option.some.inj hF
    subst hF
    exact mo_ri S V hr hlocks rfl dX6_isMissing_16
theorem mo_d_lowest : yX6_lowest.cls ≠ "java/lang/invoke/MethodHandle" ∧ yX6_lowest.cls ≠ "java/lang/invoke/VarHandle" ∧ (parseMethodDescriptor yX6_lowest.desc).map (fun d => d.parameters.length) = some 2 := by decide +kernel
set_option maxHeartbeats 4000000 in
set_option maxRecDepth 100000 in
theorem mo_m_lowest (l : Launch) (p0 : Int32) (p1 : Int32) (r : Int32) (hF : mo_lowest p0 p1 = some r) : dx_Pi l yX6_lowest cX6_lowest 2 .int ({ frames := 0, cells := 0, slots := 0, locals := 0 }) [.int p0, .int p1] r := by
  refine dx_in RX6 rfl (by decide) (Nat.le_of_ble_eq_true rfl) ?_
  intro p e s m below meth c ls S hr hlocks hv hl
  have hx := S.1
  have hb := S.2.1
  have hown := S.2.2.2.1
  have hts := S.2.2.2.2
  replace hl : lv_has ls 2 [(0, .int p0), (1, .int p1)] := hl
  unfold mo_lowest at hF
  refine lv_iload_n hx hb dX6_lowest_0 rfl (lv_at hl 0 rfl) ?_
  refine lv_if_ne (tgt := 14) hx hb dX6_lowest_1 (by decide) (fun hc => ?_) (fun hc => ?_)
  · replace hF := (if_neg hc).symm.trans hF
    refine lv_iload_n hx hb dX6_lowest_14 rfl (lv_at hl 0 rfl) ?_
    refine lv_iconst (v := 1) hx hb dX6_lowest_15 (by decide) ?_
    refine lv_icmp_ne (tgt := 29) hx hb dX6_lowest_16 (by decide) (fun hc => ?_) (fun hc => ?_)
    · replace hF := (if_neg hc).symm.trans hF
      refine lv_iload_n hx hb dX6_lowest_29 rfl (lv_at hl 1 rfl) ?_
      replace hF := Option.some.inj hF
      subst hF
      exact dx_rPi S hr hlocks rfl dX6_lowest_30
    · replace hF := (if_pos hc).symm.trans hF
      refine lv_iload_n hx hb dX6_lowest_19 rfl (lv_at hl 1 rfl) ?_
      refine lv_bipush (v := 16) hx hb dX6_lowest_20 (by decide) ?_
      refine lv_ishl hx hb dX6_lowest_22 ?_
      refine lv_bipush (v := 16) hx hb dX6_lowest_23 (by decide) ?_
      refine lv_ishr hx hb dX6_lowest_25 ?_
      refine lv_goto (tgt := 30) hx hb dX6_lowest_26 (by decide) ?_
      replace hF := Option.some.inj hF
      subst hF
      exact dx_rPi S hr hlocks rfl dX6_lowest_30
  · replace hF := (if_pos hc).symm.trans hF
    refine lv_iload_n hx hb dX6_lowest_4 rfl (lv_at hl 1 rfl) ?_
    refine lv_bipush (v := 24) hx hb dX6_lowest_5 (by decide) ?_
    refine lv_ishl hx hb dX6_lowest_7 ?_
    refine lv_bipush (v := 24) hx hb dX6_lowest_8 (by decide) ?_
    refine lv_ishr hx hb dX6_lowest_10 ?_
    refine lv_goto (tgt := 30) hx hb dX6_lowest_11 (by decide) ?_
    replace hF := Option.some.inj hF
    subst hF
    exact dx_rPi S hr hlocks rfl dX6_lowest_30
theorem mo_d_set : yX6_set.cls = RX6 ∧ yX6_set.cls ≠ "java/lang/invoke/MethodHandle" ∧ yX6_set.cls ≠ "java/lang/invoke/VarHandle" ∧ (parseMethodDescriptor yX6_set.desc).map (fun d => d.parameters.length) = some 3 := by decide +kernel
set_option maxHeartbeats 4000000 in
set_option maxRecDepth 100000 in
theorem mo_m_set (l : Launch) (D : va_G) (di dz : ClassId) (h : Nat) (ad : Nat → Nat) (A : Nat → Prop)  (p0 : Int32) (p1 : Int32) (p2 : Int32) (σ0 : mo_S) (r : Int32) (σ' : mo_S) (hF : mo_set σ0 p0 p1 p2 = some (r, σ')) : mo_Ci l yX6_set cX6_set 4 .int ({ frames := 2, cells := 0, slots := 0, locals := 42 }) D di dz h ad A [.ref h, .int p0, .int p1, .int p2] σ0 r σ' := by
  refine dx_in RX6 rfl (by decide) (Nat.le_of_ble_eq_true rfl) ?_
  intro p e s m below meth c ls S hr hlocks hv hl
  have hx := S.1
  have hb := S.2.1
  have hown := S.2.2.2.1
  have hts := S.2.2.2.2
  obtain ⟨hK, hP, hD⟩ := hv
  have V : mo_V D di dz h ad A s.heap σ0 s s.heap [] := ⟨hK, hP, hD, va_S.rf⟩
  replace hl : lv_has ls 4 [(0, .ref h), (1, .int p0), (2, .int p1), (3, .int p2)] := hl
  unfold mo_set at hF
  refine lv_iload_n hx hb dX6_set_0 rfl (lv_at hl 1 rfl) ?_
  obtain ⟨r1, h1c, hF⟩ := dx_b1_some hF
  refine dx_cPi S [.int p0] (mo_m_isRow l p0 _ h1c) (va_cwS 1 hts (lw_S q1708 q1709 q83 q1710) rfl rfl rfl mo_d_isRow ⟨Nat.le_of_ble_eq_true rfl, Nat.le_of_ble_eq_true rfl⟩) rfl rfl hl.1 (Nat.le_of_ble_eq_true rfl) dX6_set_1 ⟨Nat.zero_le _, Nat.zero_le _⟩ ?_
  refine lv_if_ne (tgt := 10) hx hb dX6_set_4 (by decide) (fun hc => ?_) (fun hc => ?_)
  · replace hF := dx_ib_t (dx_bI_n hc) hF
    refine lv_aload_n hx hb dX6_set_10 rfl (lv_at hl 0 rfl) ?_
    refine lv_iload_n hx hb dX6_set_11 rfl (lv_at hl 1 rfl) ?_
    obtain ⟨r2, h2c, hF⟩ := dx_b1_some hF
    refine mo_cVi S V [.int p0] (mo_m_isMissing l D di dz h ad A  p0 σ0 _ h2c) (cwV 1 hts (lw_V q1728 q1730 qs38 q83 q1731) rfl rfl rfl mo_d_isMissing ⟨Nat.le_of_ble_eq_true rfl, Nat.le_of_ble_eq_true rfl⟩) rfl rfl hl.1 (Nat.le_of_ble_eq_true rfl) dX6_set_12 (fun _ _ V => ?_)
    refine lv_if_eq (tgt := 24) hx hb dX6_set_15 (by decide) (fun hc => ?_) (fun hc => ?_)
    · replace hF := dx_ib_f (dx_bI_0 hc) hF
      refine lv_iload_n hx hb dX6_set_24 rfl (lv_at hl 2 rfl) ?_
      refine lv_iconst (v := 0) hx hb dX6_set_25 (by decide) ?_
      refine lv_aload_n hx hb dX6_set_26 rfl (lv_at hl 0 rfl) ?_
      refine mo_get S V 1 (by decide) rfl q1616 rfl dX6_set_27 ?_
      refine lv_iload_n hx hb dX6_set_30 rfl (lv_at hl 1 rfl) ?_
      obtain ⟨hg, hF⟩ := dx_gd_some hF
      refine mo_ld S V 1 (by decide) (dx_inb_in hg) dX6_set_31 ?_
      refine lv_iconst (v := 1) hx hb dX6_set_32 (by decide) ?_
      refine lv_isub hx hb dX6_set_33 ?_
      obtain ⟨r3, h3c, hF⟩ := dx_b1_some hF
      refine dx_cPi S [.int p1, .int (0 : Int32), .int ((σ0.2 1 p0.toNatClampNeg) - (1 : Int32))] (mo_m_in l p1 (0 : Int32) ((σ0.2 1 p0.toNatClampNeg) - (1 : Int32)) _ h3c) (va_cwS 3 hts (lw_S q1711 q1712 q83 q1713) rfl rfl rfl mo_d_in ⟨Nat.le_of_ble_eq_true rfl, Nat.le_of_ble_eq_true rfl⟩) rfl rfl hl.1 (Nat.le_of_ble_eq_true rfl) dX6_set_34 ⟨Nat.zero_le _, Nat.zero_le _⟩ ?_
      refine lv_if_ne (tgt := 46) hx hb dX6_set_37 (by decide) (fun hc => ?_) (fun hc => ?_)
      · replace hF := dx_ib_t (dx_bI_n hc) hF
        refine lv_aload_n hx hb dX6_set_46 rfl (lv_at hl 0 rfl) ?_
        refine mo_get S V 2 (by decide) rfl q1617 rfl dX6_set_47 ?_
        refine lv_bipush (v := 40) hx hb dX6_set_50 (by decide) ?_
        refine lv_iload_n hx hb dX6_set_52 rfl (lv_at hl 1 rfl) ?_
        refine lv_imul hx hb dX6_set_53 ?_
        refine lv_iload_n hx hb dX6_set_54 rfl (lv_at hl 2 rfl) ?_
        refine lv_iadd hx hb dX6_set_55 ?_
        refine lv_aload_n hx hb dX6_set_56 rfl (lv_at hl 0 rfl) ?_
        refine mo_get S V 0 (by decide) rfl q1615 rfl dX6_set_57 ?_
        refine lv_iload_n hx hb dX6_set_60 rfl (lv_at hl 1 rfl) ?_
        obtain ⟨hg, hF⟩ := dx_gd_some hF
        refine mo_ld S V 0 (by decide) (dx_inb_in hg) dX6_set_61 ?_
        refine lv_iload_n hx hb dX6_set_62 rfl (lv_at hl 3 rfl) ?_
        obtain ⟨r4, h4c, hF⟩ := dx_b1_some hF
        refine dx_cPi S [.int (σ0.2 0 p0.toNatClampNeg), .int p2] (mo_m_lowest l (σ0.2 0 p0.toNatClampNeg) p2 _ h4c) (va_cwS 2 hts (lw_S q1732 q1733 q83 q1734) rfl rfl rfl mo_d_lowest ⟨Nat.le_of_ble_eq_true rfl, Nat.le_of_ble_eq_true rfl⟩) rfl rfl hl.1 (Nat.le_of_ble_eq_true rfl) dX6_set_63 ⟨Nat.zero_le _, Nat.zero_le _⟩ ?_
        obtain ⟨hg, hF⟩ := dx_gd_some hF
        refine mo_st S V 2 (by decide) (dx_inb_in hg) dX6_set_66 (fun _ _ V => ?_)
        refine lv_aload_n hx hb dX6_set_67 rfl (lv_at hl 0 rfl) ?_
        refine lv_aload_n hx hb dX6_set_68 rfl (lv_at hl 0 rfl) ?_
        refine mo_get S V 2 (by decide) rfl q1617 rfl dX6_set_69 ?_
        refine lv_bipush (v := 40) hx hb dX6_set_72 (by decide) ?_
        refine lv_iload_n hx hb dX6_set_74 rfl (lv_at hl 1 rfl) ?_
        refine lv_imul hx hb dX6_set_75 ?_
        refine lv_iload_n hx hb dX6_set_76 rfl (lv_at hl 2 rfl) ?_
        refine lv_iadd hx hb dX6_set_77 ?_
        obtain ⟨hg, hF⟩ := dx_gd_some hF
        refine mo_ld S V 2 (by decide) (dx_inb_in hg) dX6_set_78 ?_
        obtain ⟨r5, σ5, h5c, hF⟩ := dx_b2_some hF
        refine mo_cVi S V [.int ((mo_A σ0 2 ((((40 : Int32) * p0) + p1).toNatClampNeg) r4).2 2 (((40 : Int32) * p0) + p1).toNatClampNeg)] (mo_m_well l D di dz h ad A  ((mo_A σ0 2 ((((40 : Int32) * p0) + p1).toNatClampNeg) r4).2 2 (((40 : Int32) * p0) + p1).toNatClampNeg) (mo_A σ0 2 ((((40 : Int32) * p0) + p1).toNatClampNeg) r4) _ _ h5c) (cwV 1 hts (lw_V q1720 q1722 qs37 q83 q1723) rfl rfl rfl mo_d_well ⟨Nat.le_of_ble_eq_true rfl, Nat.le_of_ble_eq_true rfl⟩) rfl rfl hl.1 (Nat.le_of_ble_eq_true rfl) dX6_set_79 (fun _ _ V => ?_)
        obtain ⟨hF1, hF2⟩ := dx_r2 hF
        subst hF1
        subst hF2
        exact mo_ri S V hr hlocks rfl dX6_set_82
      · replace hF := dx_ib_f (dx_bI_0 hc) hF
        refine lv_aload_n hx hb dX6_set_40 rfl (lv_at hl 0 rfl) ?_
        refine lv_iconst (v := 2) hx hb dX6_set_41 (by decide) ?_
        obtain ⟨r6, σ6, h6c, hF⟩ := dx_b2_some hF
        refine mo_cVi S V [.int (2 : Int32)] (mo_m_found l D di dz h ad A  (2 : Int32) σ0 _ _ h6c) (cwV 1 hts (lw_V q1715 q1717 qs36 q83 q1718) rfl rfl rfl mo_d_found ⟨Nat.le_of_ble_eq_true rfl, Nat.le_of_ble_eq_true rfl⟩) rfl rfl hl.1 (Nat.le_of_ble_eq_true rfl) dX6_set_42 (fun _ _ V => ?_)
        obtain ⟨hF1, hF2⟩ := dx_r2 hF
        subst hF1
        subst hF2
        exact mo_ri S V hr hlocks rfl dX6_set_45
    · replace hF := dx_ib_t (dx_bI_n hc) hF
      refine lv_aload_n hx hb dX6_set_18 rfl (lv_at hl 0 rfl) ?_
      refine lv_iconst (v := 1) hx hb dX6_set_19 (by decide) ?_
      obtain ⟨r7, σ7, h7c, hF⟩ := dx_b2_some hF
      refine mo_cVi S V [.int (1 : Int32)] (mo_m_found l D di dz h ad A  (1 : Int32) σ0 _ _ h7c) (cwV 1 hts (lw_V q1715 q1717 qs36 q83 q1718) rfl rfl rfl mo_d_found ⟨Nat.le_of_ble_eq_true rfl, Nat.le_of_ble_eq_true rfl⟩) rfl rfl hl.1 (Nat.le_of_ble_eq_true rfl) dX6_set_20 (fun _ _ V => ?_)
      obtain ⟨hF1, hF2⟩ := dx_r2 hF
      subst hF1
      subst hF2
      exact mo_ri S V hr hlocks rfl dX6_set_23
  · replace hF := dx_ib_f (dx_bI_0 hc) hF
    refine lv_ldc hx hb hown (hts _ q1714) dX6_set_7 ?_
    obtain ⟨hF1, hF2⟩ := dx_r2 hF
    subst hF1
    subst hF2
    exact mo_ri S V hr hlocks rfl dX6_set_9
theorem mo_d_isPart : yX6_isPart.cls = RX6 ∧ yX6_isPart.cls ≠ "java/lang/invoke/MethodHandle" ∧ yX6_isPart.cls ≠ "java/lang/invoke/VarHandle" ∧ (parseMethodDescriptor yX6_isPart.desc).map (fun d => d.parameters.length) = some 3 := by decide +kernel
set_option maxHeartbeats 4000000 in
set_option maxRecDepth 100000 in
theorem mo_m_isPart (l : Launch) (D : va_G) (di dz : ClassId) (h : Nat) (ad : Nat → Nat) (A : Nat → Prop)  (p0 : Int32) (p1 : Int32) (p2 : Int32) (σ0 : mo_S) (r : Bool) (hF : mo_isPart σ0 p0 p1 p2 = some r) : mo_Ci l yX6_isPart cX6_isPart 4 .boolean ({ frames := 0, cells := 0, slots := 0, locals := 0 }) D di dz h ad A [.ref h, .int p0, .int p1, .int p2] σ0 (dx_bI r) σ0 := by
  refine dx_in RX6 rfl (by decide) (Nat.le_of_ble_eq_true rfl) ?_
  intro p e s m below meth c ls S hr hlocks hv hl
  have hx := S.1
  have hb := S.2.1
  have hown := S.2.2.2.1
  have hts := S.2.2.2.2
  obtain ⟨hK, hP, hD⟩ := hv
  have V : mo_V D di dz h ad A s.heap σ0 s s.heap [] := ⟨hK, hP, hD, va_S.rf⟩
  replace hl : lv_has ls 4 [(0, .ref h), (1, .int p0), (2, .int p1), (3, .int p2)] := hl
  unfold mo_isPart at hF
  refine lv_iload_n hx hb dX6_isPart_0 rfl (lv_at hl 2 rfl) ?_
  refine lv_if_lt (tgt := 34) hx hb dX6_isPart_1 (by decide) (fun hc => ?_) (fun hc => ?_)
  · replace hF := (if_pos hc).symm.trans hF
    refine lv_iconst (v := 0) hx hb dX6_isPart_34 (by decide) ?_
    replace hF := Option.some.inj hF
    subst hF
    exact mo_ri S V hr hlocks rfl dX6_isPart_35
  · replace hF := (if_neg hc).symm.trans hF
    refine lv_iload_n hx hb dX6_isPart_4 rfl (lv_at hl 3 rfl) ?_
    refine lv_if_lt (tgt := 34) hx hb dX6_isPart_5 (by decide) (fun hc => ?_) (fun hc => ?_)
    · replace hF := (if_pos hc).symm.trans hF
      refine lv_iconst (v := 0) hx hb dX6_isPart_34 (by decide) ?_
      replace hF := Option.some.inj hF
      subst hF
      exact mo_ri S V hr hlocks rfl dX6_isPart_35
    · replace hF := (if_neg hc).symm.trans hF
      refine lv_iload_n hx hb dX6_isPart_8 rfl (lv_at hl 2 rfl) ?_
      refine lv_aload_n hx hb dX6_isPart_9 rfl (lv_at hl 0 rfl) ?_
      refine mo_get S V 1 (by decide) rfl q1616 rfl dX6_isPart_10 ?_
      refine lv_iload_n hx hb dX6_isPart_13 rfl (lv_at hl 1 rfl) ?_
      obtain ⟨hg, hF⟩ := dx_gd_some hF
      refine mo_ld S V 1 (by decide) (dx_inb_in hg) dX6_isPart_14 ?_
      refine lv_icmp_gt (tgt := 34) hx hb dX6_isPart_15 (by decide) (fun hc => ?_) (fun hc => ?_)
      · replace hF := (if_pos hc).symm.trans hF
        refine lv_iconst (v := 0) hx hb dX6_isPart_34 (by decide) ?_
        replace hF := Option.some.inj hF
        subst hF
        exact mo_ri S V hr hlocks rfl dX6_isPart_35
      · replace hF := (if_neg hc).symm.trans hF
        refine lv_iload_n hx hb dX6_isPart_18 rfl (lv_at hl 3 rfl) ?_
        refine lv_aload_n hx hb dX6_isPart_19 rfl (lv_at hl 0 rfl) ?_
        refine mo_get S V 1 (by decide) rfl q1616 rfl dX6_isPart_20 ?_
        refine lv_iload_n hx hb dX6_isPart_23 rfl (lv_at hl 1 rfl) ?_
        obtain ⟨hg, hF⟩ := dx_gd_some hF
        refine mo_ld S V 1 (by decide) (dx_inb_in hg) dX6_isPart_24 ?_
        refine lv_iload_n hx hb dX6_isPart_25 rfl (lv_at hl 2 rfl) ?_
        refine lv_isub hx hb dX6_isPart_26 ?_
        refine lv_icmp_gt (tgt := 34) hx hb dX6_isPart_27 (by decide) (fun hc => ?_) (fun hc => ?_)
        · replace hF := (if_pos hc).symm.trans hF
          refine lv_iconst (v := 0) hx hb dX6_isPart_34 (by decide) ?_
          replace hF := Option.some.inj hF
          subst hF
          exact mo_ri S V hr hlocks rfl dX6_isPart_35
        · replace hF := (if_neg hc).symm.trans hF
          refine lv_iconst (v := 1) hx hb dX6_isPart_30 (by decide) ?_
          refine lv_goto (tgt := 35) hx hb dX6_isPart_31 (by decide) ?_
          replace hF := Option.some.inj hF
          subst hF
          exact mo_ri S V hr hlocks rfl dX6_isPart_35
theorem mo_d_copy : yX6_copy.cls = RX6 ∧ yX6_copy.cls ≠ "java/lang/invoke/MethodHandle" ∧ yX6_copy.cls ≠ "java/lang/invoke/VarHandle" ∧ (parseMethodDescriptor yX6_copy.desc).map (fun d => d.parameters.length) = some 5 := by decide +kernel
set_option maxHeartbeats 4000000 in
set_option maxRecDepth 100000 in
theorem mo_m_copy (l : Launch) (D : va_G) (di dz : ClassId) (h : Nat) (ad : Nat → Nat) (A : Nat → Prop)  (p0 : Int32) (p1 : Int32) (p2 : Int32) (p3 : Int32) (p4 : Int32) (σ0 : mo_S) (r : Int32) (σ' : mo_S) (hF : mo_copy σ0 p0 p1 p2 p3 p4 = some (r, σ')) : mo_Ci l yX6_copy cX6_copy 7 .int ({ frames := 2, cells := 0, slots := 0, locals := 42 }) D di dz h ad A [.ref h, .int p0, .int p1, .int p2, .int p3, .int p4] σ0 r σ' := by
  refine dx_in RX6 rfl (by decide) (Nat.le_of_ble_eq_true rfl) ?_
  intro p e s m below meth c ls S hr hlocks hv hl
  have hx := S.1
  have hb := S.2.1
  have hown := S.2.2.2.1
  have hts := S.2.2.2.2
  obtain ⟨hK, hP, hD⟩ := hv
  have V : mo_V D di dz h ad A s.heap σ0 s s.heap [] := ⟨hK, hP, hD, va_S.rf⟩
  replace hl : lv_has ls 7 [(0, .ref h), (1, .int p0), (2, .int p1), (3, .int p2), (4, .int p3), (5, .int p4)] := hl
  unfold mo_copy at hF
  have hJ33 : ∀ (σ : mo_S) (H : Heap) (locs : List Loc) (ls : Array Slot), mo_copy_J33 σ = some (r, σ') → mo_V D di dz h ad A s.heap σ s H locs → lv_has ls 7 [(0, .ref h)] → W p l e ({ frames := 2, cells := 0, slots := 0, locals := 42 }) s m ([.ref h, .int p0, .int p1, .int p2, .int p3, .int p4] : List Value).toArray below meth c H locs 0 0 (MQ below (mo_Qi D di dz h ad A r σ') ([.ref h, .int p0, .int p1, .int p2, .int p3, .int p4] : List Value).toArray s 0 0 A) (F0 m 33 ls []) := by
    intro σ H locs ls hF V hl
    unfold mo_copy_J33 at hF
    refine lv_aload_n hx hb dX6_copy_33 rfl (lv_at hl 0 rfl) ?_
    refine lv_iconst (v := 1) hx hb dX6_copy_34 (by decide) ?_
    obtain ⟨r4, σ4, h4c, hF⟩ := dx_b2_some hF
    refine mo_cVi S V [.int (1 : Int32)] (mo_m_found l D di dz h ad A  (1 : Int32) σ _ _ h4c) (cwV 1 hts (lw_V q1715 q1717 qs36 q83 q1718) rfl rfl rfl mo_d_found ⟨Nat.le_of_ble_eq_true rfl, Nat.le_of_ble_eq_true rfl⟩) rfl rfl hl.1 (Nat.le_of_ble_eq_true rfl) dX6_copy_35 (fun _ _ V => ?_)
    obtain ⟨hF1, hF2⟩ := dx_r2 hF
    subst hF1
    subst hF2
    exact mo_ri S V hr hlocks rfl dX6_copy_38
  have hJ83 : ∀ (σ : mo_S) (H : Heap) (locs : List Loc) (ls : Array Slot), mo_copy_J83 σ = some (r, σ') → mo_V D di dz h ad A s.heap σ s H locs → lv_has ls 7 [(0, .ref h)] → W p l e ({ frames := 2, cells := 0, slots := 0, locals := 42 }) s m ([.ref h, .int p0, .int p1, .int p2, .int p3, .int p4] : List Value).toArray below meth c H locs 0 0 (MQ below (mo_Qi D di dz h ad A r σ') ([.ref h, .int p0, .int p1, .int p2, .int p3, .int p4] : List Value).toArray s 0 0 A) (F0 m 83 ls []) := by
    intro σ H locs ls hF V hl
    unfold mo_copy_J83 at hF
    refine lv_aload_n hx hb dX6_copy_83 rfl (lv_at hl 0 rfl) ?_
    refine lv_iconst (v := 2) hx hb dX6_copy_84 (by decide) ?_
    obtain ⟨r7, σ7, h7c, hF⟩ := dx_b2_some hF
    refine mo_cVi S V [.int (2 : Int32)] (mo_m_found l D di dz h ad A  (2 : Int32) σ _ _ h7c) (cwV 1 hts (lw_V q1715 q1717 qs36 q83 q1718) rfl rfl rfl mo_d_found ⟨Nat.le_of_ble_eq_true rfl, Nat.le_of_ble_eq_true rfl⟩) rfl rfl hl.1 (Nat.le_of_ble_eq_true rfl) dX6_copy_85 (fun _ _ V => ?_)
    obtain ⟨hF1, hF2⟩ := dx_r2 hF
    subst hF1
    subst hF2
    exact mo_ri S V hr hlocks rfl dX6_copy_88
  have hL129 : ∀ (v3 : Int32) (v4 : Int32) (v5 : Int32) (n : Nat) (v6 : Int32) (σ : mo_S) (H : Heap) (locs : List Loc) (ls : Array Slot), dx_lp (fun x => mo_copy_L129 x.2 v3 v4 v5 x.1) n (v6, σ) = some (r, σ') → mo_V D di dz h ad A s.heap σ s H locs → lv_has ls 7 [(0, .ref h), (3, .int v3), (4, .int v4), (5, .int v5), (6, .int v6)] → W p l e ({ frames := 2, cells := 0, slots := 0, locals := 42 }) s m ([.ref h, .int p0, .int p1, .int p2, .int p3, .int p4] : List Value).toArray below meth c H locs 0 0 (MQ below (mo_Qi D di dz h ad A r σ') ([.ref h, .int p0, .int p1, .int p2, .int p3, .int p4] : List Value).toArray s 0 0 A) (F0 m 129 ls []) := by
    intro v3 v4 v5 n
    induction n with
    | zero =>
      intro v6 σ H locs ls hF V hl
      exact (dx_lp_0 hF).elim
    | succ n ih129 =>
      intro v6 σ H locs ls hF V hl
      obtain ⟨y129, hF, hz129⟩ := dx_lp_s hF
      replace hF : mo_copy_L129 σ v3 v4 v5 v6 = some y129 := hF
      unfold mo_copy_L129 at hF
      refine lv_iload hx hb dX6_copy_129 (lv_at hl 4 rfl) ?_
      refine lv_iload hx hb dX6_copy_131 (lv_at hl 3 rfl) ?_
      refine lv_icmp_ge (tgt := 164) hx hb dX6_copy_133 (by decide) (fun hc => ?_) (fun hc => ?_)
      · replace hF := (if_pos hc).symm.trans hF
        replace hF := dx_ex_k hF hz129
        refine lv_aload_n hx hb dX6_copy_164 rfl (lv_at hl 0 rfl) ?_
        refine lv_iload hx hb dX6_copy_165 (lv_at hl 3 rfl) ?_
        obtain ⟨r9, σ9, h9c, hF⟩ := dx_b2_some hF
        refine mo_cVi S V [.int v5] (mo_m_well l D di dz h ad A  v5 σ _ _ h9c) (cwV 1 hts (lw_V q1720 q1722 qs37 q83 q1723) rfl rfl rfl mo_d_well ⟨Nat.le_of_ble_eq_true rfl, Nat.le_of_ble_eq_true rfl⟩) rfl rfl hl.1 (Nat.le_of_ble_eq_true rfl) dX6_copy_167 (fun _ _ V => ?_)
        obtain ⟨hF1, hF2⟩ := dx_r2 hF
        subst hF1
        subst hF2
        exact mo_ri S V hr hlocks rfl dX6_copy_170
      · replace hF := (if_neg hc).symm.trans hF
        refine lv_aload_n hx hb dX6_copy_136 rfl (lv_at hl 0 rfl) ?_
        refine mo_get S V 2 (by decide) rfl q1617 rfl dX6_copy_137 ?_
        refine lv_bipush (v := 40) hx hb dX6_copy_140 (by decide) ?_
        refine lv_iload_n hx hb dX6_copy_142 rfl (lv_at hl 1 rfl) ?_
        refine lv_imul hx hb dX6_copy_143 ?_
        refine lv_iload hx hb dX6_copy_144 (lv_at hl 2 rfl) ?_
        refine lv_iadd hx hb dX6_copy_146 ?_
        refine lv_iload hx hb dX6_copy_147 (lv_at hl 4 rfl) ?_
        refine lv_iadd hx hb dX6_copy_149 ?_
        refine lv_aload_n hx hb dX6_copy_150 rfl (lv_at hl 0 rfl) ?_
        refine mo_get S V 3 (by decide) rfl q1618 rfl dX6_copy_151 ?_
        refine lv_iload hx hb dX6_copy_154 (lv_at hl 4 rfl) ?_
        obtain ⟨hg, hF⟩ := dx_gd_some hF
        refine mo_ld S V 3 (by decide) (dx_inb_in hg) dX6_copy_156 ?_
        obtain ⟨hg, hF⟩ := dx_gd_some hF
        refine mo_st S V 2 (by decide) (dx_inb_in hg) dX6_copy_157 (fun _ _ V => ?_)
        refine lv_iinc (v := (v6 + (1 : Int32))) (lv' := [(6, .int (v6 + (1 : Int32))), (0, .ref h), (3, .int v3), (4, .int v4), (5, .int v5)]) hx hb dX6_copy_158 hl (k := 4) rfl rfl (by decide) rfl (fun ls hl => ?_)
        refine lv_goto (tgt := 129) hx hb dX6_copy_161 (by decide) ?_
        replace hF := Option.some.inj hF
        subst hF
        exact ih129 (v6 + (1 : Int32)) (mo_A σ 2 (((((40 : Int32) * v3) + v4) + v6).toNatClampNeg) (σ.2 3 v6.toNatClampNeg)) _ _ _ (dx_lk_l hz129) V (lv_sub hl [1, 2, 3, 4, 0] rfl)
  have hL92 : ∀ (v1 : Int32) (v2 : Int32) (v3 : Int32) (v4 : Int32) (v5 : Int32) (n : Nat) (v6 : Int32) (σ : mo_S) (H : Heap) (locs : List Loc) (ls : Array Slot), dx_lp (fun x => mo_copy_L92 x.2 v1 v2 v3 v4 v5 x.1) n (v6, σ) = some (r, σ') → mo_V D di dz h ad A s.heap σ s H locs → lv_has ls 7 [(0, .ref h), (1, .int v1), (2, .int v2), (3, .int v3), (4, .int v4), (5, .int v5), (6, .int v6)] → W p l e ({ frames := 2, cells := 0, slots := 0, locals := 42 }) s m ([.ref h, .int p0, .int p1, .int p2, .int p3, .int p4] : List Value).toArray below meth c H locs 0 0 (MQ below (mo_Qi D di dz h ad A r σ') ([.ref h, .int p0, .int p1, .int p2, .int p3, .int p4] : List Value).toArray s 0 0 A) (F0 m 92 ls []) := by
    intro v1 v2 v3 v4 v5 n
    induction n with
    | zero =>
      intro v6 σ H locs ls hF V hl
      exact (dx_lp_0 hF).elim
    | succ n ih92 =>
      intro v6 σ H locs ls hF V hl
      obtain ⟨y92, hF, hz92⟩ := dx_lp_s hF
      replace hF : mo_copy_L92 σ v1 v2 v3 v4 v5 v6 = some y92 := hF
      unfold mo_copy_L92 at hF
      refine lv_iload hx hb dX6_copy_92 (lv_at hl 6 rfl) ?_
      refine lv_iload hx hb dX6_copy_94 (lv_at hl 5 rfl) ?_
      refine lv_icmp_ge (tgt := 126) hx hb dX6_copy_96 (by decide) (fun hc => ?_) (fun hc => ?_)
      · replace hF := (if_pos hc).symm.trans hF
        replace hF := dx_ex_k hF hz92
        refine lv_iconst (v := 0) hx hb dX6_copy_126 (by decide) ?_
        refine lv_istore (lv' := [(6, .int (0 : Int32)), (0, .ref h), (1, .int v1), (2, .int v2), (3, .int v3), (4, .int v4), (5, .int v5)]) hx hb dX6_copy_127 hl (by decide) rfl (fun ls hl => ?_)
        exact hL129 v3 v4 v5 dx_fu (0 : Int32) σ _ _ _ hF V (lv_sub hl [1, 4, 5, 6, 0] rfl)
      · replace hF := (if_neg hc).symm.trans hF
        refine lv_aload_n hx hb dX6_copy_99 rfl (lv_at hl 0 rfl) ?_
        refine mo_get S V 3 (by decide) rfl q1618 rfl dX6_copy_100 ?_
        refine lv_iload hx hb dX6_copy_103 (lv_at hl 6 rfl) ?_
        refine lv_aload_n hx hb dX6_copy_105 rfl (lv_at hl 0 rfl) ?_
        refine mo_get S V 2 (by decide) rfl q1617 rfl dX6_copy_106 ?_
        refine lv_bipush (v := 40) hx hb dX6_copy_109 (by decide) ?_
        refine lv_iload_n hx hb dX6_copy_111 rfl (lv_at hl 1 rfl) ?_
        refine lv_imul hx hb dX6_copy_112 ?_
        refine lv_iload_n hx hb dX6_copy_113 rfl (lv_at hl 2 rfl) ?_
        refine lv_iadd hx hb dX6_copy_114 ?_
        refine lv_iload hx hb dX6_copy_115 (lv_at hl 6 rfl) ?_
        refine lv_iadd hx hb dX6_copy_117 ?_
        obtain ⟨hg, hF⟩ := dx_gd_some hF
        refine mo_ld S V 2 (by decide) (dx_inb_in hg) dX6_copy_118 ?_
        obtain ⟨hg, hF⟩ := dx_gd_some hF
        refine mo_st S V 3 (by decide) (dx_inb_in hg) dX6_copy_119 (fun _ _ V => ?_)
        refine lv_iinc (v := (v6 + (1 : Int32))) (lv' := [(6, .int (v6 + (1 : Int32))), (0, .ref h), (1, .int v1), (2, .int v2), (3, .int v3), (4, .int v4), (5, .int v5)]) hx hb dX6_copy_120 hl (k := 6) rfl rfl (by decide) rfl (fun ls hl => ?_)
        refine lv_goto (tgt := 92) hx hb dX6_copy_123 (by decide) ?_
        replace hF := Option.some.inj hF
        subst hF
        exact ih92 (v6 + (1 : Int32)) (mo_A σ 3 v6.toNatClampNeg (σ.2 2 ((((40 : Int32) * v1) + v2) + v6).toNatClampNeg)) _ _ _ (dx_lk_l hz92) V (lv_sub hl [1, 2, 3, 4, 5, 6, 0] rfl)
  refine lv_iload_n hx hb dX6_copy_0 rfl (lv_at hl 1 rfl) ?_
  obtain ⟨r1, h1c, hF⟩ := dx_b1_some hF
  refine dx_cPi S [.int p0] (mo_m_isRow l p0 _ h1c) (va_cwS 1 hts (lw_S q1708 q1709 q83 q1710) rfl rfl rfl mo_d_isRow ⟨Nat.le_of_ble_eq_true rfl, Nat.le_of_ble_eq_true rfl⟩) rfl rfl hl.1 (Nat.le_of_ble_eq_true rfl) dX6_copy_1 ⟨Nat.zero_le _, Nat.zero_le _⟩ ?_
  refine lv_if_eq (tgt := 14) hx hb dX6_copy_4 (by decide) (fun hc => ?_) (fun hc => ?_)
  · replace hF := dx_ib_f (dx_bI_0 hc) hF
    refine lv_ldc hx hb hown (hts _ q1714) dX6_copy_14 ?_
    obtain ⟨hF1, hF2⟩ := dx_r2 hF
    subst hF1
    subst hF2
    exact mo_ri S V hr hlocks rfl dX6_copy_16
  · replace hF := dx_ib_t (dx_bI_n hc) hF
    refine lv_iload_n hx hb dX6_copy_7 rfl (lv_at hl 3 rfl) ?_
    obtain ⟨r2, h2c, hF⟩ := dx_b1_some hF
    refine dx_cPi S [.int p2] (mo_m_isRow l p2 _ h2c) (va_cwS 1 hts (lw_S q1708 q1709 q83 q1710) rfl rfl rfl mo_d_isRow ⟨Nat.le_of_ble_eq_true rfl, Nat.le_of_ble_eq_true rfl⟩) rfl rfl hl.1 (Nat.le_of_ble_eq_true rfl) dX6_copy_8 ⟨Nat.zero_le _, Nat.zero_le _⟩ ?_
    refine lv_if_ne (tgt := 17) hx hb dX6_copy_11 (by decide) (fun hc => ?_) (fun hc => ?_)
    · replace hF := dx_ib_t (dx_bI_n hc) hF
      refine lv_aload_n hx hb dX6_copy_17 rfl (lv_at hl 0 rfl) ?_
      refine lv_iload_n hx hb dX6_copy_18 rfl (lv_at hl 1 rfl) ?_
      obtain ⟨r3, h3c, hF⟩ := dx_b1_some hF
      refine mo_cVi S V [.int p0] (mo_m_isMissing l D di dz h ad A  p0 σ0 _ h3c) (cwV 1 hts (lw_V q1728 q1730 qs38 q83 q1731) rfl rfl rfl mo_d_isMissing ⟨Nat.le_of_ble_eq_true rfl, Nat.le_of_ble_eq_true rfl⟩) rfl rfl hl.1 (Nat.le_of_ble_eq_true rfl) dX6_copy_19 (fun _ _ V => ?_)
      refine lv_if_ne (tgt := 33) hx hb dX6_copy_22 (by decide) (fun hc => ?_) (fun hc => ?_)
      · replace hF := dx_ib_t (dx_bI_n hc) hF
        exact hJ33 σ0 _ _ _ hF V (lv_sub hl [0] rfl)
      · replace hF := dx_ib_f (dx_bI_0 hc) hF
        refine lv_aload_n hx hb dX6_copy_25 rfl (lv_at hl 0 rfl) ?_
        refine lv_iload_n hx hb dX6_copy_26 rfl (lv_at hl 3 rfl) ?_
        obtain ⟨r5, h5c, hF⟩ := dx_b1_some hF
        refine mo_cVi S V [.int p2] (mo_m_isMissing l D di dz h ad A  p2 σ0 _ h5c) (cwV 1 hts (lw_V q1728 q1730 qs38 q83 q1731) rfl rfl rfl mo_d_isMissing ⟨Nat.le_of_ble_eq_true rfl, Nat.le_of_ble_eq_true rfl⟩) rfl rfl hl.1 (Nat.le_of_ble_eq_true rfl) dX6_copy_27 (fun _ _ V => ?_)
        refine lv_if_eq (tgt := 39) hx hb dX6_copy_30 (by decide) (fun hc => ?_) (fun hc => ?_)
        · replace hF := dx_ib_f (dx_bI_0 hc) hF
          refine lv_aload_n hx hb dX6_copy_39 rfl (lv_at hl 0 rfl) ?_
          refine mo_get S V 0 (by decide) rfl q1615 rfl dX6_copy_40 ?_
          refine lv_iload_n hx hb dX6_copy_43 rfl (lv_at hl 1 rfl) ?_
          obtain ⟨hg, hF⟩ := dx_gd_some hF
          refine mo_ld S V 0 (by decide) (dx_inb_in hg) dX6_copy_44 ?_
          refine lv_aload_n hx hb dX6_copy_45 rfl (lv_at hl 0 rfl) ?_
          refine mo_get S V 0 (by decide) rfl q1615 rfl dX6_copy_46 ?_
          refine lv_iload_n hx hb dX6_copy_49 rfl (lv_at hl 3 rfl) ?_
          obtain ⟨hg, hF⟩ := dx_gd_some hF
          refine mo_ld S V 0 (by decide) (dx_inb_in hg) dX6_copy_50 ?_
          refine lv_icmp_eq (tgt := 60) hx hb dX6_copy_51 (by decide) (fun hc => ?_) (fun hc => ?_)
          · replace hF := (if_pos hc).symm.trans hF
            refine lv_aload_n hx hb dX6_copy_60 rfl (lv_at hl 0 rfl) ?_
            refine lv_iload_n hx hb dX6_copy_61 rfl (lv_at hl 1 rfl) ?_
            refine lv_iload_n hx hb dX6_copy_62 rfl (lv_at hl 2 rfl) ?_
            refine lv_iload hx hb dX6_copy_63 (lv_at hl 5 rfl) ?_
            obtain ⟨r6, h6c, hF⟩ := dx_b1_some hF
            refine mo_cVi S V [.int p0, .int p1, .int p4] (mo_m_isPart l D di dz h ad A  p0 p1 p4 σ0 _ h6c) (cwV 3 hts (lw_V q1739 q1741 qs39 q83 q1742) rfl rfl rfl mo_d_isPart ⟨Nat.le_of_ble_eq_true rfl, Nat.le_of_ble_eq_true rfl⟩) rfl rfl hl.1 (Nat.le_of_ble_eq_true rfl) dX6_copy_65 (fun _ _ V => ?_)
            refine lv_if_eq (tgt := 83) hx hb dX6_copy_68 (by decide) (fun hc => ?_) (fun hc => ?_)
            · replace hF := dx_ib_f (dx_bI_0 hc) hF
              exact hJ83 σ0 _ _ _ hF V (lv_sub hl [0] rfl)
            · replace hF := dx_ib_t (dx_bI_n hc) hF
              refine lv_aload_n hx hb dX6_copy_71 rfl (lv_at hl 0 rfl) ?_
              refine lv_iload_n hx hb dX6_copy_72 rfl (lv_at hl 3 rfl) ?_
              refine lv_iload hx hb dX6_copy_73 (lv_at hl 4 rfl) ?_
              refine lv_iload hx hb dX6_copy_75 (lv_at hl 5 rfl) ?_
              obtain ⟨r8, h8c, hF⟩ := dx_b1_some hF
              refine mo_cVi S V [.int p2, .int p3, .int p4] (mo_m_isPart l D di dz h ad A  p2 p3 p4 σ0 _ h8c) (cwV 3 hts (lw_V q1739 q1741 qs39 q83 q1742) rfl rfl rfl mo_d_isPart ⟨Nat.le_of_ble_eq_true rfl, Nat.le_of_ble_eq_true rfl⟩) rfl rfl hl.1 (Nat.le_of_ble_eq_true rfl) dX6_copy_77 (fun _ _ V => ?_)
              refine lv_if_ne (tgt := 89) hx hb dX6_copy_80 (by decide) (fun hc => ?_) (fun hc => ?_)
              · replace hF := dx_ib_t (dx_bI_n hc) hF
                refine lv_iconst (v := 0) hx hb dX6_copy_89 (by decide) ?_
                refine lv_istore (lv' := [(6, .int (0 : Int32)), (0, .ref h), (1, .int p0), (2, .int p1), (3, .int p2), (4, .int p3), (5, .int p4)]) hx hb dX6_copy_90 hl (by decide) rfl (fun ls hl => ?_)
                exact hL92 p0 p1 p2 p3 p4 dx_fu (0 : Int32) σ0 _ _ _ hF V (lv_sub hl [1, 2, 3, 4, 5, 6, 0] rfl)
              · replace hF := dx_ib_f (dx_bI_0 hc) hF
                exact hJ83 σ0 _ _ _ hF V (lv_sub hl [0] rfl)
          · replace hF := (if_neg hc).symm.trans hF
            refine lv_aload_n hx hb dX6_copy_54 rfl (lv_at hl 0 rfl) ?_
            refine lv_iconst (v := 5) hx hb dX6_copy_55 (by decide) ?_
            obtain ⟨r10, σ10, h10c, hF⟩ := dx_b2_some hF
            refine mo_cVi S V [.int (5 : Int32)] (mo_m_found l D di dz h ad A  (5 : Int32) σ0 _ _ h10c) (cwV 1 hts (lw_V q1715 q1717 qs36 q83 q1718) rfl rfl rfl mo_d_found ⟨Nat.le_of_ble_eq_true rfl, Nat.le_of_ble_eq_true rfl⟩) rfl rfl hl.1 (Nat.le_of_ble_eq_true rfl) dX6_copy_56 (fun _ _ V => ?_)
            obtain ⟨hF1, hF2⟩ := dx_r2 hF
            subst hF1
            subst hF2
            exact mo_ri S V hr hlocks rfl dX6_copy_59
        · replace hF := dx_ib_t (dx_bI_n hc) hF
          exact hJ33 σ0 _ _ _ hF V (lv_sub hl [0] rfl)
    · replace hF := dx_ib_f (dx_bI_0 hc) hF
      refine lv_ldc hx hb hown (hts _ q1714) dX6_copy_14 ?_
      obtain ⟨hF1, hF2⟩ := dx_r2 hF
      subst hF1
      subst hF2
      exact mo_ri S V hr hlocks rfl dX6_copy_16
theorem mo_d_drop : yX6_drop.cls = RX6 ∧ yX6_drop.cls ≠ "java/lang/invoke/MethodHandle" ∧ yX6_drop.cls ≠ "java/lang/invoke/VarHandle" ∧ (parseMethodDescriptor yX6_drop.desc).map (fun d => d.parameters.length) = some 1 := by decide +kernel
set_option maxHeartbeats 4000000 in
set_option maxRecDepth 100000 in
theorem mo_m_drop (l : Launch) (D : va_G) (di dz : ClassId) (h : Nat) (ad : Nat → Nat) (A : Nat → Prop)  (p0 : Int32) (σ0 : mo_S) (r : Int32) (σ' : mo_S) (hF : mo_drop σ0 p0 = some (r, σ')) : mo_Ci l yX6_drop cX6_drop 2 .int ({ frames := 2, cells := 0, slots := 0, locals := 42 }) D di dz h ad A [.ref h, .int p0] σ0 r σ' := by
  refine dx_in RX6 rfl (by decide) (Nat.le_of_ble_eq_true rfl) ?_
  intro p e s m below meth c ls S hr hlocks hv hl
  have hx := S.1
  have hb := S.2.1
  have hown := S.2.2.2.1
  have hts := S.2.2.2.2
  obtain ⟨hK, hP, hD⟩ := hv
  have V : mo_V D di dz h ad A s.heap σ0 s s.heap [] := ⟨hK, hP, hD, va_S.rf⟩
  replace hl : lv_has ls 2 [(0, .ref h), (1, .int p0)] := hl
  unfold mo_drop at hF
  refine lv_iload_n hx hb dX6_drop_0 rfl (lv_at hl 1 rfl) ?_
  obtain ⟨r1, h1c, hF⟩ := dx_b1_some hF
  refine dx_cPi S [.int p0] (mo_m_isRow l p0 _ h1c) (va_cwS 1 hts (lw_S q1708 q1709 q83 q1710) rfl rfl rfl mo_d_isRow ⟨Nat.le_of_ble_eq_true rfl, Nat.le_of_ble_eq_true rfl⟩) rfl rfl hl.1 (Nat.le_of_ble_eq_true rfl) dX6_drop_1 ⟨Nat.zero_le _, Nat.zero_le _⟩ ?_
  refine lv_if_ne (tgt := 10) hx hb dX6_drop_4 (by decide) (fun hc => ?_) (fun hc => ?_)
  · replace hF := dx_ib_t (dx_bI_n hc) hF
    refine lv_aload_n hx hb dX6_drop_10 rfl (lv_at hl 0 rfl) ?_
    refine lv_iload_n hx hb dX6_drop_11 rfl (lv_at hl 1 rfl) ?_
    obtain ⟨r2, h2c, hF⟩ := dx_b1_some hF
    refine mo_cVi S V [.int p0] (mo_m_isMissing l D di dz h ad A  p0 σ0 _ h2c) (cwV 1 hts (lw_V q1728 q1730 qs38 q83 q1731) rfl rfl rfl mo_d_isMissing ⟨Nat.le_of_ble_eq_true rfl, Nat.le_of_ble_eq_true rfl⟩) rfl rfl hl.1 (Nat.le_of_ble_eq_true rfl) dX6_drop_12 (fun _ _ V => ?_)
    refine lv_if_eq (tgt := 24) hx hb dX6_drop_15 (by decide) (fun hc => ?_) (fun hc => ?_)
    · replace hF := dx_ib_f (dx_bI_0 hc) hF
      refine lv_aload_n hx hb dX6_drop_24 rfl (lv_at hl 0 rfl) ?_
      refine mo_get S V 0 (by decide) rfl q1615 rfl dX6_drop_25 ?_
      refine lv_iload_n hx hb dX6_drop_28 rfl (lv_at hl 1 rfl) ?_
      refine lv_ldc hx hb hown (hts _ q1614) dX6_drop_29 ?_
      obtain ⟨hg, hF⟩ := dx_gd_some hF
      refine mo_st S V 0 (by decide) (dx_inb_in hg) dX6_drop_31 (fun _ _ V => ?_)
      refine lv_aload_n hx hb dX6_drop_32 rfl (lv_at hl 0 rfl) ?_
      refine lv_aload_n hx hb dX6_drop_33 rfl (lv_at hl 0 rfl) ?_
      refine mo_get S V 1 (by decide) rfl q1616 rfl dX6_drop_34 ?_
      refine lv_iload_n hx hb dX6_drop_37 rfl (lv_at hl 1 rfl) ?_
      obtain ⟨hg, hF⟩ := dx_gd_some hF
      refine mo_ld S V 1 (by decide) (dx_inb_in hg) dX6_drop_38 ?_
      obtain ⟨r3, σ3, h3c, hF⟩ := dx_b2_some hF
      refine mo_cVi S V [.int ((mo_A σ0 0 p0.toNatClampNeg (-1000000 : Int32)).2 1 p0.toNatClampNeg)] (mo_m_well l D di dz h ad A  ((mo_A σ0 0 p0.toNatClampNeg (-1000000 : Int32)).2 1 p0.toNatClampNeg) (mo_A σ0 0 p0.toNatClampNeg (-1000000 : Int32)) _ _ h3c) (cwV 1 hts (lw_V q1720 q1722 qs37 q83 q1723) rfl rfl rfl mo_d_well ⟨Nat.le_of_ble_eq_true rfl, Nat.le_of_ble_eq_true rfl⟩) rfl rfl hl.1 (Nat.le_of_ble_eq_true rfl) dX6_drop_39 (fun _ _ V => ?_)
      obtain ⟨hF1, hF2⟩ := dx_r2 hF
      subst hF1
      subst hF2
      exact mo_ri S V hr hlocks rfl dX6_drop_42
    · replace hF := dx_ib_t (dx_bI_n hc) hF
      refine lv_aload_n hx hb dX6_drop_18 rfl (lv_at hl 0 rfl) ?_
      refine lv_iconst (v := 1) hx hb dX6_drop_19 (by decide) ?_
      obtain ⟨r4, σ4, h4c, hF⟩ := dx_b2_some hF
      refine mo_cVi S V [.int (1 : Int32)] (mo_m_found l D di dz h ad A  (1 : Int32) σ0 _ _ h4c) (cwV 1 hts (lw_V q1715 q1717 qs36 q83 q1718) rfl rfl rfl mo_d_found ⟨Nat.le_of_ble_eq_true rfl, Nat.le_of_ble_eq_true rfl⟩) rfl rfl hl.1 (Nat.le_of_ble_eq_true rfl) dX6_drop_20 (fun _ _ V => ?_)
      obtain ⟨hF1, hF2⟩ := dx_r2 hF
      subst hF1
      subst hF2
      exact mo_ri S V hr hlocks rfl dX6_drop_23
  · replace hF := dx_ib_f (dx_bI_0 hc) hF
    refine lv_ldc hx hb hown (hts _ q1714) dX6_drop_7 ?_
    obtain ⟨hF1, hF2⟩ := dx_r2 hF
    subst hF1
    subst hF2
    exact mo_ri S V hr hlocks rfl dX6_drop_9
theorem mo_d_feed : yX6_feed.cls = RX6 ∧ yX6_feed.cls ≠ "java/lang/invoke/MethodHandle" ∧ yX6_feed.cls ≠ "java/lang/invoke/VarHandle" ∧ (parseMethodDescriptor yX6_feed.desc).map (fun d => d.parameters.length) = some 1 := by decide +kernel
set_option maxHeartbeats 4000000 in
set_option maxRecDepth 100000 in
theorem mo_m_feed (l : Launch) (D : va_G) (di dz : ClassId) (h : Nat) (ad : Nat → Nat) (A : Nat → Prop)  (p0 : Int32) (σ0 : mo_S) (r : Int32) (σ' : mo_S) (hF : mo_feed σ0 p0 = some (r, σ')) : mo_Ci l yX6_feed cX6_feed 2 .int ({ frames := 1, cells := 0, slots := 0, locals := 22 }) D di dz h ad A [.ref h, .int p0] σ0 r σ' := by
  refine dx_in RX6 rfl (by decide) (Nat.le_of_ble_eq_true rfl) ?_
  intro p e s m below meth c ls S hr hlocks hv hl
  have hx := S.1
  have hb := S.2.1
  have hown := S.2.2.2.1
  have hts := S.2.2.2.2
  obtain ⟨hK, hP, hD⟩ := hv
  have V : mo_V D di dz h ad A s.heap σ0 s s.heap [] := ⟨hK, hP, hD, va_S.rf⟩
  replace hl : lv_has ls 2 [(0, .ref h), (1, .int p0)] := hl
  unfold mo_feed at hF
  refine lv_iload_n hx hb dX6_feed_0 rfl (lv_at hl 1 rfl) ?_
  refine lv_iconst (v := 0) hx hb dX6_feed_1 (by decide) ?_
  refine lv_sipush (v := 255) hx hb dX6_feed_2 (by decide) ?_
  obtain ⟨r1, h1c, hF⟩ := dx_b1_some hF
  refine dx_cPi S [.int p0, .int (0 : Int32), .int (255 : Int32)] (mo_m_in l p0 (0 : Int32) (255 : Int32) _ h1c) (va_cwS 3 hts (lw_S q1711 q1712 q83 q1713) rfl rfl rfl mo_d_in ⟨Nat.le_of_ble_eq_true rfl, Nat.le_of_ble_eq_true rfl⟩) rfl rfl hl.1 (Nat.le_of_ble_eq_true rfl) dX6_feed_5 ⟨Nat.zero_le _, Nat.zero_le _⟩ ?_
  refine lv_if_ne (tgt := 14) hx hb dX6_feed_8 (by decide) (fun hc => ?_) (fun hc => ?_)
  · replace hF := dx_ib_t (dx_bI_n hc) hF
    refine lv_aload_n hx hb dX6_feed_14 rfl (lv_at hl 0 rfl) ?_
    refine mo_get S V 6 (by decide) rfl q1621 rfl dX6_feed_15 ?_
    refine lv_sipush (v := 130) hx hb dX6_feed_18 (by decide) ?_
    refine lv_icmp_ne (tgt := 27) hx hb dX6_feed_21 (by decide) (fun hc => ?_) (fun hc => ?_)
    · replace hF := (if_neg hc).symm.trans hF
      refine lv_aload_n hx hb dX6_feed_27 rfl (lv_at hl 0 rfl) ?_
      refine mo_get S V 5 (by decide) rfl q1620 rfl dX6_feed_28 ?_
      refine lv_aload_n hx hb dX6_feed_31 rfl (lv_at hl 0 rfl) ?_
      refine mo_get S V 6 (by decide) rfl q1621 rfl dX6_feed_32 ?_
      refine lv_iload_n hx hb dX6_feed_35 rfl (lv_at hl 1 rfl) ?_
      obtain ⟨hg, hF⟩ := dx_gd_some hF
      refine mo_st S V 4 (by decide) (dx_inb_in hg) dX6_feed_36 (fun _ _ V => ?_)
      refine lv_aload_n hx hb dX6_feed_37 rfl (lv_at hl 0 rfl) ?_
      refine lv_dup hx hb dX6_feed_38 rfl ?_
      refine mo_get S V 6 (by decide) rfl q1621 rfl dX6_feed_39 ?_
      refine lv_iconst (v := 1) hx hb dX6_feed_42 (by decide) ?_
      refine lv_iadd hx hb dX6_feed_43 ?_
      refine mo_put S V 6 1 (by decide) rfl q1621 rfl rfl rfl dX6_feed_44 (fun _ _ V => ?_)
      refine lv_aload_n hx hb dX6_feed_47 rfl (lv_at hl 0 rfl) ?_
      refine mo_get S V 6 (by decide) rfl q1621 rfl dX6_feed_48 ?_
      obtain ⟨hF1, hF2⟩ := dx_r2 hF
      subst hF1
      subst hF2
      exact mo_ri S V hr hlocks rfl dX6_feed_51
    · replace hF := (if_pos hc).symm.trans hF
      refine lv_ldc hx hb hown (hts _ q1751) dX6_feed_24 ?_
      obtain ⟨hF1, hF2⟩ := dx_r2 hF
      subst hF1
      subst hF2
      exact mo_ri S V hr hlocks rfl dX6_feed_26
  · replace hF := dx_ib_f (dx_bI_0 hc) hF
    refine lv_ldc hx hb hown (hts _ q1714) dX6_feed_11 ?_
    obtain ⟨hF1, hF2⟩ := dx_r2 hF
    subst hF1
    subst hF2
    exact mo_ri S V hr hlocks rfl dX6_feed_13
theorem mo_d_byteAt : yX6_byteAt.cls = RX6 ∧ yX6_byteAt.cls ≠ "java/lang/invoke/MethodHandle" ∧ yX6_byteAt.cls ≠ "java/lang/invoke/VarHandle" ∧ (parseMethodDescriptor yX6_byteAt.desc).map (fun d => d.parameters.length) = some 1 := by decide +kernel
set_option maxHeartbeats 4000000 in
set_option maxRecDepth 100000 in
theorem mo_m_byteAt (l : Launch) (D : va_G) (di dz : ClassId) (h : Nat) (ad : Nat → Nat) (A : Nat → Prop)  (p0 : Int32) (σ0 : mo_S) (r : Int32) (hF : mo_byteAt σ0 p0 = some r) : mo_Ci l yX6_byteAt cX6_byteAt 2 .int ({ frames := 0, cells := 0, slots := 0, locals := 0 }) D di dz h ad A [.ref h, .int p0] σ0 r σ0 := by
  refine dx_in RX6 rfl (by decide) (Nat.le_of_ble_eq_true rfl) ?_
  intro p e s m below meth c ls S hr hlocks hv hl
  have hx := S.1
  have hb := S.2.1
  have hown := S.2.2.2.1
  have hts := S.2.2.2.2
  obtain ⟨hK, hP, hD⟩ := hv
  have V : mo_V D di dz h ad A s.heap σ0 s s.heap [] := ⟨hK, hP, hD, va_S.rf⟩
  replace hl : lv_has ls 2 [(0, .ref h), (1, .int p0)] := hl
  unfold mo_byteAt at hF
  refine lv_iload_n hx hb dX6_byteAt_0 rfl (lv_at hl 1 rfl) ?_
  refine lv_aload_n hx hb dX6_byteAt_1 rfl (lv_at hl 0 rfl) ?_
  refine mo_get S V 6 (by decide) rfl q1621 rfl dX6_byteAt_2 ?_
  refine lv_icmp_ge (tgt := 17) hx hb dX6_byteAt_5 (by decide) (fun hc => ?_) (fun hc => ?_)
  · replace hF := (if_pos hc).symm.trans hF
    refine lv_iconst (v := (-1)) hx hb dX6_byteAt_17 (by decide) ?_
    replace hF := Option.some.inj hF
    subst hF
    exact mo_ri S V hr hlocks rfl dX6_byteAt_18
  · replace hF := (if_neg hc).symm.trans hF
    refine lv_aload_n hx hb dX6_byteAt_8 rfl (lv_at hl 0 rfl) ?_
    refine mo_get S V 5 (by decide) rfl q1620 rfl dX6_byteAt_9 ?_
    refine lv_iload_n hx hb dX6_byteAt_12 rfl (lv_at hl 1 rfl) ?_
    obtain ⟨hg, hF⟩ := dx_gd_some hF
    refine mo_ld S V 4 (by decide) (dx_inb_in hg) dX6_byteAt_13 ?_
    refine lv_goto (tgt := 18) hx hb dX6_byteAt_14 (by decide) ?_
    replace hF := Option.some.inj hF
    subst hF
    exact mo_ri S V hr hlocks rfl dX6_byteAt_18
theorem mo_d_advances : yX6_advances.cls = RX6 ∧ yX6_advances.cls ≠ "java/lang/invoke/MethodHandle" ∧ yX6_advances.cls ≠ "java/lang/invoke/VarHandle" ∧ (parseMethodDescriptor yX6_advances.desc).map (fun d => d.parameters.length) = some 0 := by decide +kernel
set_option maxHeartbeats 4000000 in
set_option maxRecDepth 100000 in
theorem mo_m_advances (l : Launch) (D : va_G) (di dz : ClassId) (h : Nat) (ad : Nat → Nat) (A : Nat → Prop)   (σ0 : mo_S) (σ' : mo_S) (hF : mo_advances σ0 = some σ') : mo_Cv l yX6_advances cX6_advances 2 ({ frames := 1, cells := 0, slots := 0, locals := 22 }) D di dz h ad A [.ref h] σ0 σ' := by
  refine dx_in RX6 rfl (by decide) (Nat.le_of_ble_eq_true rfl) ?_
  intro p e s m below meth c ls S hr hlocks hv hl
  have hx := S.1
  have hb := S.2.1
  have hown := S.2.2.2.1
  have hts := S.2.2.2.2
  obtain ⟨hK, hP, hD⟩ := hv
  have V : mo_V D di dz h ad A s.heap σ0 s s.heap [] := ⟨hK, hP, hD, va_S.rf⟩
  replace hl : lv_has ls 2 [(0, .ref h)] := hl
  unfold mo_advances at hF
  have hJ200 : ∀ (σ : mo_S) (t1 : Int32) (t2 : Bool) (H : Heap) (locs : List Loc) (ls : Array Slot), mo_advances_J200 σ t1 t2 = some σ' → mo_V D di dz h ad A s.heap σ s H locs → lv_has ls 2 [] → W p l e ({ frames := 1, cells := 0, slots := 0, locals := 22 }) s m ([.ref h] : List Value).toArray below meth c H locs 0 0 (MQ below (mo_Qv D di dz h ad A σ') ([.ref h] : List Value).toArray s 0 0 A) (F0 m 200 ls [.int (dx_bI t2), .int t1, .ref h]) := by
    intro σ t1 t2 H locs ls hF V hl
    unfold mo_advances_J200 at hF
    refine lv_iadd hx hb dX6_advances_200 ?_
    refine mo_put S V 9 4 (by decide) rfl q1624 rfl rfl rfl dX6_advances_201 (fun _ _ V => ?_)
    replace hF := Option.some.inj hF
    subst hF
    exact mo_rv S V hr hlocks dX6_advances_204
  have hJ180 : ∀ (σ : mo_S) (t1 : Int32) (H : Heap) (locs : List Loc) (ls : Array Slot), mo_advances_J180 σ t1 = some σ' → mo_V D di dz h ad A s.heap σ s H locs → lv_has ls 2 [(0, .ref h)] → W p l e ({ frames := 1, cells := 0, slots := 0, locals := 22 }) s m ([.ref h] : List Value).toArray below meth c H locs 0 0 (MQ below (mo_Qv D di dz h ad A σ') ([.ref h] : List Value).toArray s 0 0 A) (F0 m 180 ls [.int t1, .ref h]) := by
    intro σ t1 H locs ls hF V hl
    unfold mo_advances_J180 at hF
    refine mo_put S V 11 6 (by decide) rfl q1626 rfl rfl rfl dX6_advances_180 (fun _ _ V => ?_)
    refine lv_aload_n hx hb dX6_advances_183 rfl (lv_at hl 0 rfl) ?_
    refine lv_dup hx hb dX6_advances_184 rfl ?_
    refine mo_get S V 9 (by decide) rfl q1624 rfl dX6_advances_185 ?_
    refine lv_aload_n hx hb dX6_advances_188 rfl (lv_at hl 0 rfl) ?_
    refine mo_get S V 11 (by decide) rfl q1626 rfl dX6_advances_189 ?_
    refine lv_if_ne (tgt := 199) hx hb dX6_advances_192 (by decide) (fun hc => ?_) (fun hc => ?_)
    · replace hF := (if_neg hc).symm.trans hF
      refine lv_iconst (v := 1) hx hb dX6_advances_199 (by decide) ?_
      exact hJ200 (mo_I σ 6 t1) ((mo_I σ 6 t1).1 4) true _ _ _ hF V (lv_sub hl [] rfl)
    · replace hF := (if_pos hc).symm.trans hF
      refine lv_iconst (v := 0) hx hb dX6_advances_195 (by decide) ?_
      refine lv_goto (tgt := 200) hx hb dX6_advances_196 (by decide) ?_
      exact hJ200 (mo_I σ 6 t1) ((mo_I σ 6 t1).1 4) false _ _ _ hF V (lv_sub hl [] rfl)
  have hJ131 : ∀ (σ : mo_S) (t1 : Int32) (H : Heap) (locs : List Loc) (ls : Array Slot), mo_advances_J131 σ t1 = some σ' → mo_V D di dz h ad A s.heap σ s H locs → lv_has ls 2 [] → W p l e ({ frames := 1, cells := 0, slots := 0, locals := 22 }) s m ([.ref h] : List Value).toArray below meth c H locs 0 0 (MQ below (mo_Qv D di dz h ad A σ') ([.ref h] : List Value).toArray s 0 0 A) (F0 m 131 ls [.int t1, .ref h]) := by
    intro σ t1 H locs ls hF V hl
    unfold mo_advances_J131 at hF
    refine mo_put S V 11 6 (by decide) rfl q1626 rfl rfl rfl dX6_advances_131 (fun _ _ V => ?_)
    replace hF := Option.some.inj hF
    subst hF
    exact mo_rv S V hr hlocks dX6_advances_134
  have hL38 : ∀  (n : Nat) (σ : mo_S) (H : Heap) (locs : List Loc) (ls : Array Slot), dx_lp (fun x => mo_advances_L38 x) n σ = some σ' → mo_V D di dz h ad A s.heap σ s H locs → lv_has ls 2 [(0, .ref h)] → W p l e ({ frames := 1, cells := 0, slots := 0, locals := 22 }) s m ([.ref h] : List Value).toArray below meth c H locs 0 0 (MQ below (mo_Qv D di dz h ad A σ') ([.ref h] : List Value).toArray s 0 0 A) (F0 m 38 ls []) := by
    intro n
    induction n with
    | zero =>
      intro σ H locs ls hF V hl
      exact (dx_lp_0 hF).elim
    | succ n ih38 =>
      intro σ H locs ls hF V hl
      obtain ⟨y38, hF, hz38⟩ := dx_lp_s hF
      replace hF : mo_advances_L38 σ = some y38 := hF
      unfold mo_advances_L38 at hF
      have hJ96 : ∀ (σ : mo_S) (t1 : Int32) (H : Heap) (locs : List Loc) (ls : Array Slot), mo_advances_J96 σ t1 = some y38 → mo_V D di dz h ad A s.heap σ s H locs → lv_has ls 2 [(0, .ref h)] → W p l e ({ frames := 1, cells := 0, slots := 0, locals := 22 }) s m ([.ref h] : List Value).toArray below meth c H locs 0 0 (MQ below (mo_Qv D di dz h ad A σ') ([.ref h] : List Value).toArray s 0 0 A) (F0 m 96 ls [.int t1, .ref h]) := by
        intro σ t1 H locs ls hF V hl
        unfold mo_advances_J96 at hF
        refine mo_put S V 12 7 (by decide) rfl q1627 rfl rfl rfl dX6_advances_96 (fun _ _ V => ?_)
        refine lv_aload_n hx hb dX6_advances_99 rfl (lv_at hl 0 rfl) ?_
        refine lv_dup hx hb dX6_advances_100 rfl ?_
        refine mo_get S V 9 (by decide) rfl q1624 rfl dX6_advances_101 ?_
        refine lv_iconst (v := 1) hx hb dX6_advances_104 (by decide) ?_
        refine lv_iadd hx hb dX6_advances_105 ?_
        refine mo_put S V 9 4 (by decide) rfl q1624 rfl rfl rfl dX6_advances_106 (fun _ _ V => ?_)
        refine lv_goto (tgt := 38) hx hb dX6_advances_109 (by decide) ?_
        replace hF := Option.some.inj hF
        subst hF
        exact ih38 (mo_I (mo_I σ 7 t1) 4 (((mo_I σ 7 t1).1 4) + (1 : Int32))) _ _ _ (dx_lk_l hz38) V (lv_sub hl [0] rfl)
      refine lv_aload_n hx hb dX6_advances_38 rfl (lv_at hl 0 rfl) ?_
      refine lv_aload_n hx hb dX6_advances_39 rfl (lv_at hl 0 rfl) ?_
      refine mo_get S V 9 (by decide) rfl q1624 rfl dX6_advances_40 ?_
      obtain ⟨r4, h4c, hF⟩ := dx_b1_some hF
      refine mo_cVi S V [.int (σ.1 4)] (mo_m_byteAt l D di dz h ad A  (σ.1 4) σ _ h4c) (cwV 1 hts (lw_V q1760 q1762 qs41 q83 q1763) rfl rfl rfl mo_d_byteAt ⟨Nat.le_of_ble_eq_true rfl, Nat.le_of_ble_eq_true rfl⟩) rfl rfl hl.1 (Nat.le_of_ble_eq_true rfl) dX6_advances_43 (fun _ _ V => ?_)
      refine lv_bipush (v := 48) hx hb dX6_advances_46 (by decide) ?_
      refine lv_bipush (v := 57) hx hb dX6_advances_48 (by decide) ?_
      obtain ⟨r5, h5c, hF⟩ := dx_b1_some hF
      refine dx_cPi S [.int r4, .int (48 : Int32), .int (57 : Int32)] (mo_m_in l r4 (48 : Int32) (57 : Int32) _ h5c) (va_cwS 3 hts (lw_S q1711 q1712 q83 q1713) rfl rfl rfl mo_d_in ⟨Nat.le_of_ble_eq_true rfl, Nat.le_of_ble_eq_true rfl⟩) rfl rfl hl.1 (Nat.le_of_ble_eq_true rfl) dX6_advances_50 ⟨Nat.zero_le _, Nat.zero_le _⟩ ?_
      refine lv_if_eq (tgt := 112) hx hb dX6_advances_53 (by decide) (fun hc => ?_) (fun hc => ?_)
      · replace hF := dx_ib_f (dx_bI_0 hc) hF
        replace hF := dx_ex_k hF hz38
        refine lv_aload_n hx hb dX6_advances_112 rfl (lv_at hl 0 rfl) ?_
        refine lv_aload_n hx hb dX6_advances_113 rfl (lv_at hl 0 rfl) ?_
        refine mo_get S V 9 (by decide) rfl q1624 rfl dX6_advances_114 ?_
        refine lv_aload_n hx hb dX6_advances_117 rfl (lv_at hl 0 rfl) ?_
        refine mo_get S V 10 (by decide) rfl q1625 rfl dX6_advances_118 ?_
        refine lv_isub hx hb dX6_advances_121 ?_
        refine lv_iconst (v := 3) hx hb dX6_advances_122 (by decide) ?_
        refine lv_icmp_ge (tgt := 130) hx hb dX6_advances_123 (by decide) (fun hc => ?_) (fun hc => ?_)
        · replace hF := (if_pos hc).symm.trans hF
          refine lv_iconst (v := 5) hx hb dX6_advances_130 (by decide) ?_
          exact hJ131 σ (5 : Int32) _ _ _ hF V (lv_sub hl [] rfl)
        · replace hF := (if_neg hc).symm.trans hF
          refine lv_iconst (v := 2) hx hb dX6_advances_126 (by decide) ?_
          refine lv_goto (tgt := 131) hx hb dX6_advances_127 (by decide) ?_
          exact hJ131 σ (2 : Int32) _ _ _ hF V (lv_sub hl [] rfl)
      · replace hF := dx_ib_t (dx_bI_n hc) hF
        refine lv_aload_n hx hb dX6_advances_56 rfl (lv_at hl 0 rfl) ?_
        refine lv_aload_n hx hb dX6_advances_57 rfl (lv_at hl 0 rfl) ?_
        refine mo_get S V 9 (by decide) rfl q1624 rfl dX6_advances_58 ?_
        refine lv_aload_n hx hb dX6_advances_61 rfl (lv_at hl 0 rfl) ?_
        refine mo_get S V 10 (by decide) rfl q1625 rfl dX6_advances_62 ?_
        refine lv_isub hx hb dX6_advances_65 ?_
        refine lv_iconst (v := 2) hx hb dX6_advances_66 (by decide) ?_
        refine lv_icmp_ge (tgt := 92) hx hb dX6_advances_67 (by decide) (fun hc => ?_) (fun hc => ?_)
        · replace hF := (if_pos hc).symm.trans hF
          refine lv_aload_n hx hb dX6_advances_92 rfl (lv_at hl 0 rfl) ?_
          refine mo_get S V 12 (by decide) rfl q1627 rfl dX6_advances_93 ?_
          exact hJ96 σ (σ.1 7) _ _ _ hF V (lv_sub hl [0] rfl)
        · replace hF := (if_neg hc).symm.trans hF
          refine lv_bipush (v := 10) hx hb dX6_advances_70 (by decide) ?_
          refine lv_aload_n hx hb dX6_advances_72 rfl (lv_at hl 0 rfl) ?_
          refine mo_get S V 12 (by decide) rfl q1627 rfl dX6_advances_73 ?_
          refine lv_imul hx hb dX6_advances_76 ?_
          refine lv_aload_n hx hb dX6_advances_77 rfl (lv_at hl 0 rfl) ?_
          refine lv_aload_n hx hb dX6_advances_78 rfl (lv_at hl 0 rfl) ?_
          refine mo_get S V 9 (by decide) rfl q1624 rfl dX6_advances_79 ?_
          obtain ⟨r6, h6c, hF⟩ := dx_b1_some hF
          refine mo_cVi S V [.int (σ.1 4)] (mo_m_byteAt l D di dz h ad A  (σ.1 4) σ _ h6c) (cwV 1 hts (lw_V q1760 q1762 qs41 q83 q1763) rfl rfl rfl mo_d_byteAt ⟨Nat.le_of_ble_eq_true rfl, Nat.le_of_ble_eq_true rfl⟩) rfl rfl hl.1 (Nat.le_of_ble_eq_true rfl) dX6_advances_82 (fun _ _ V => ?_)
          refine lv_iadd hx hb dX6_advances_85 ?_
          refine lv_bipush (v := 48) hx hb dX6_advances_86 (by decide) ?_
          refine lv_isub hx hb dX6_advances_88 ?_
          refine lv_goto (tgt := 96) hx hb dX6_advances_89 (by decide) ?_
          exact hJ96 σ ((((10 : Int32) * (σ.1 7)) + r6) - (48 : Int32)) _ _ _ hF V (lv_sub hl [0] rfl)
  refine lv_aload_n hx hb dX6_advances_0 rfl (lv_at hl 0 rfl) ?_
  refine lv_aload_n hx hb dX6_advances_1 rfl (lv_at hl 0 rfl) ?_
  refine mo_get S V 9 (by decide) rfl q1624 rfl dX6_advances_2 ?_
  refine mo_put S V 10 5 (by decide) rfl q1625 rfl rfl rfl dX6_advances_5 (fun _ _ V => ?_)
  refine lv_aload_n hx hb dX6_advances_8 rfl (lv_at hl 0 rfl) ?_
  refine lv_aload_n hx hb dX6_advances_9 rfl (lv_at hl 0 rfl) ?_
  refine mo_get S V 9 (by decide) rfl q1624 rfl dX6_advances_10 ?_
  obtain ⟨r1, h1c, hF⟩ := dx_b1_some hF
  refine mo_cVi S V [.int ((mo_I σ0 5 (σ0.1 4)).1 4)] (mo_m_byteAt l D di dz h ad A  ((mo_I σ0 5 (σ0.1 4)).1 4) (mo_I σ0 5 (σ0.1 4)) _ h1c) (cwV 1 hts (lw_V q1760 q1762 qs41 q83 q1763) rfl rfl rfl mo_d_byteAt ⟨Nat.le_of_ble_eq_true rfl, Nat.le_of_ble_eq_true rfl⟩) rfl rfl hl.1 (Nat.le_of_ble_eq_true rfl) dX6_advances_13 (fun _ _ V => ?_)
  refine lv_istore_n (lv' := [(1, .int r1), (0, .ref h)]) hx hb dX6_advances_16 rfl hl (by decide) rfl (fun ls hl => ?_)
  refine lv_aload_n hx hb dX6_advances_17 rfl (lv_at hl 1 rfl) ?_
  refine lv_iload_n hx hb dX6_advances_18 rfl (lv_at hl 0 rfl) ?_
  refine mo_put S V 12 7 (by decide) rfl q1627 rfl rfl rfl dX6_advances_19 (fun _ _ V => ?_)
  refine lv_iload_n hx hb dX6_advances_22 rfl (lv_at hl 0 rfl) ?_
  refine lv_bipush (v := 48) hx hb dX6_advances_23 (by decide) ?_
  refine lv_bipush (v := 57) hx hb dX6_advances_25 (by decide) ?_
  obtain ⟨r2, h2c, hF⟩ := dx_b1_some hF
  refine dx_cPi S [.int r1, .int (48 : Int32), .int (57 : Int32)] (mo_m_in l r1 (48 : Int32) (57 : Int32) _ h2c) (va_cwS 3 hts (lw_S q1711 q1712 q83 q1713) rfl rfl rfl mo_d_in ⟨Nat.le_of_ble_eq_true rfl, Nat.le_of_ble_eq_true rfl⟩) rfl rfl hl.1 (Nat.le_of_ble_eq_true rfl) dX6_advances_27 ⟨Nat.zero_le _, Nat.zero_le _⟩ ?_
  refine lv_if_eq (tgt := 135) hx hb dX6_advances_30 (by decide) (fun hc => ?_) (fun hc => ?_)
  · replace hF := dx_ib_f (dx_bI_0 hc) hF
    refine lv_aload_n hx hb dX6_advances_135 rfl (lv_at hl 1 rfl) ?_
    refine lv_iload_n hx hb dX6_advances_136 rfl (lv_at hl 0 rfl) ?_
    refine lv_if_ge (tgt := 144) hx hb dX6_advances_137 (by decide) (fun hc => ?_) (fun hc => ?_)
    · replace hF := (if_pos hc).symm.trans hF
      refine lv_iload_n hx hb dX6_advances_144 rfl (lv_at hl 0 rfl) ?_
      refine lv_bipush (v := 97) hx hb dX6_advances_145 (by decide) ?_
      refine lv_bipush (v := 122) hx hb dX6_advances_147 (by decide) ?_
      obtain ⟨r3, h3c, hF⟩ := dx_b1_some hF
      refine dx_cPi S [.int r1, .int (97 : Int32), .int (122 : Int32)] (mo_m_in l r1 (97 : Int32) (122 : Int32) _ h3c) (va_cwS 3 hts (lw_S q1711 q1712 q83 q1713) rfl rfl rfl mo_d_in ⟨Nat.le_of_ble_eq_true rfl, Nat.le_of_ble_eq_true rfl⟩) rfl rfl hl.1 (Nat.le_of_ble_eq_true rfl) dX6_advances_149 ⟨Nat.zero_le _, Nat.zero_le _⟩ ?_
      refine lv_if_eq (tgt := 159) hx hb dX6_advances_152 (by decide) (fun hc => ?_) (fun hc => ?_)
      · replace hF := dx_ib_f (dx_bI_0 hc) hF
        refine lv_iload_n hx hb dX6_advances_159 rfl (lv_at hl 0 rfl) ?_
        refine lv_bipush (v := 44) hx hb dX6_advances_160 (by decide) ?_
        refine lv_icmp_ne (tgt := 169) hx hb dX6_advances_162 (by decide) (fun hc => ?_) (fun hc => ?_)
        · replace hF := (if_neg hc).symm.trans hF
          refine lv_iload_n hx hb dX6_advances_169 rfl (lv_at hl 0 rfl) ?_
          refine lv_bipush (v := 59) hx hb dX6_advances_170 (by decide) ?_
          refine lv_icmp_ne (tgt := 179) hx hb dX6_advances_172 (by decide) (fun hc => ?_) (fun hc => ?_)
          · replace hF := (if_neg hc).symm.trans hF
            refine lv_iconst (v := 5) hx hb dX6_advances_179 (by decide) ?_
            exact hJ180 (mo_I (mo_I σ0 5 (σ0.1 4)) 7 r1) (5 : Int32) _ _ _ hF V (lv_sub hl [1] rfl)
          · replace hF := (if_pos hc).symm.trans hF
            refine lv_iconst (v := 4) hx hb dX6_advances_175 (by decide) ?_
            refine lv_goto (tgt := 180) hx hb dX6_advances_176 (by decide) ?_
            exact hJ180 (mo_I (mo_I σ0 5 (σ0.1 4)) 7 r1) (4 : Int32) _ _ _ hF V (lv_sub hl [1] rfl)
        · replace hF := (if_pos hc).symm.trans hF
          refine lv_iconst (v := 3) hx hb dX6_advances_165 (by decide) ?_
          refine lv_goto (tgt := 180) hx hb dX6_advances_166 (by decide) ?_
          exact hJ180 (mo_I (mo_I σ0 5 (σ0.1 4)) 7 r1) (3 : Int32) _ _ _ hF V (lv_sub hl [1] rfl)
      · replace hF := dx_ib_t (dx_bI_n hc) hF
        refine lv_iconst (v := 1) hx hb dX6_advances_155 (by decide) ?_
        refine lv_goto (tgt := 180) hx hb dX6_advances_156 (by decide) ?_
        exact hJ180 (mo_I (mo_I σ0 5 (σ0.1 4)) 7 r1) (1 : Int32) _ _ _ hF V (lv_sub hl [1] rfl)
    · replace hF := (if_neg hc).symm.trans hF
      refine lv_iconst (v := 0) hx hb dX6_advances_140 (by decide) ?_
      refine lv_goto (tgt := 180) hx hb dX6_advances_141 (by decide) ?_
      exact hJ180 (mo_I (mo_I σ0 5 (σ0.1 4)) 7 r1) (0 : Int32) _ _ _ hF V (lv_sub hl [1] rfl)
  · replace hF := dx_ib_t (dx_bI_n hc) hF
    refine lv_aload_n hx hb dX6_advances_33 rfl (lv_at hl 1 rfl) ?_
    refine lv_iconst (v := 0) hx hb dX6_advances_34 (by decide) ?_
    refine mo_put S V 12 7 (by decide) rfl q1627 rfl rfl rfl dX6_advances_35 (fun _ _ V => ?_)
    exact hL38  dx_fu (mo_I (mo_I (mo_I σ0 5 (σ0.1 4)) 7 r1) 7 (0 : Int32)) _ _ _ hF V (lv_sub hl [1] rfl)
theorem mo_d_isWell : yX6_isWell.cls = RX6 ∧ yX6_isWell.cls ≠ "java/lang/invoke/MethodHandle" ∧ yX6_isWell.cls ≠ "java/lang/invoke/VarHandle" ∧ (parseMethodDescriptor yX6_isWell.desc).map (fun d => d.parameters.length) = some 0 := by decide +kernel
set_option maxHeartbeats 4000000 in
set_option maxRecDepth 100000 in
theorem mo_m_isWell (l : Launch) (D : va_G) (di dz : ClassId) (h : Nat) (ad : Nat → Nat) (A : Nat → Prop)   (σ0 : mo_S) (r : Bool) (hF : mo_isWell σ0 = some r) : mo_Ci l yX6_isWell cX6_isWell 1 .boolean ({ frames := 0, cells := 0, slots := 0, locals := 0 }) D di dz h ad A [.ref h] σ0 (dx_bI r) σ0 := by
  refine dx_in RX6 rfl (by decide) (Nat.le_of_ble_eq_true rfl) ?_
  intro p e s m below meth c ls S hr hlocks hv hl
  have hx := S.1
  have hb := S.2.1
  have hown := S.2.2.2.1
  have hts := S.2.2.2.2
  obtain ⟨hK, hP, hD⟩ := hv
  have V : mo_V D di dz h ad A s.heap σ0 s s.heap [] := ⟨hK, hP, hD, va_S.rf⟩
  replace hl : lv_has ls 1 [(0, .ref h)] := hl
  unfold mo_isWell at hF
  refine lv_aload_n hx hb dX6_isWell_0 rfl (lv_at hl 0 rfl) ?_
  refine mo_get S V 8 (by decide) rfl q1623 rfl dX6_isWell_1 ?_
  refine lv_if_ge (tgt := 11) hx hb dX6_isWell_4 (by decide) (fun hc => ?_) (fun hc => ?_)
  · replace hF := (if_pos hc).symm.trans hF
    refine lv_iconst (v := 0) hx hb dX6_isWell_11 (by decide) ?_
    replace hF := Option.some.inj hF
    subst hF
    exact mo_ri S V hr hlocks rfl dX6_isWell_12
  · replace hF := (if_neg hc).symm.trans hF
    refine lv_iconst (v := 1) hx hb dX6_isWell_7 (by decide) ?_
    refine lv_goto (tgt := 12) hx hb dX6_isWell_8 (by decide) ?_
    replace hF := Option.some.inj hF
    subst hF
    exact mo_ri S V hr hlocks rfl dX6_isWell_12
theorem mo_d_takes : yX6_takes.cls = RX6 ∧ yX6_takes.cls ≠ "java/lang/invoke/MethodHandle" ∧ yX6_takes.cls ≠ "java/lang/invoke/VarHandle" ∧ (parseMethodDescriptor yX6_takes.desc).map (fun d => d.parameters.length) = some 2 := by decide +kernel
set_option maxHeartbeats 4000000 in
set_option maxRecDepth 100000 in
theorem mo_m_takes (l : Launch) (D : va_G) (di dz : ClassId) (h : Nat) (ad : Nat → Nat) (A : Nat → Prop)  (p0 : Bool) (p1 : Int32) (σ0 : mo_S) (r : Int32) (σ' : mo_S) (hF : mo_takes σ0 p0 p1 = some (r, σ')) : mo_Ci l yX6_takes cX6_takes 4 .int ({ frames := 2, cells := 0, slots := 0, locals := 43 }) D di dz h ad A [.ref h, .int (dx_bI p0), .int p1] σ0 r σ' := by
  refine dx_in RX6 rfl (by decide) (Nat.le_of_ble_eq_true rfl) ?_
  intro p e s m below meth c ls S hr hlocks hv hl
  have hx := S.1
  have hb := S.2.1
  have hown := S.2.2.2.1
  have hts := S.2.2.2.2
  obtain ⟨hK, hP, hD⟩ := hv
  have V : mo_V D di dz h ad A s.heap σ0 s s.heap [] := ⟨hK, hP, hD, va_S.rf⟩
  replace hl : lv_has ls 4 [(0, .ref h), (1, .int (dx_bI p0)), (2, .int p1)] := hl
  unfold mo_takes at hF
  refine lv_aload_n hx hb dX6_takes_0 rfl (lv_at hl 0 rfl) ?_
  obtain ⟨r1, h1c, hF⟩ := dx_b1_some hF
  refine mo_cVi S V [] (mo_m_isWell l D di dz h ad A   σ0 _ h1c) (cwV 0 hts (lw_V q1768 q1770 qs43 q83 q1771) rfl rfl rfl mo_d_isWell ⟨Nat.le_of_ble_eq_true rfl, Nat.le_of_ble_eq_true rfl⟩) rfl rfl hl.1 (Nat.le_of_ble_eq_true rfl) dX6_takes_1 (fun _ _ V => ?_)
  refine lv_if_ne (tgt := 9) hx hb dX6_takes_4 (by decide) (fun hc => ?_) (fun hc => ?_)
  · replace hF := dx_ib_t (dx_bI_n hc) hF
    refine lv_iload_n hx hb dX6_takes_9 rfl (lv_at hl 1 rfl) ?_
    refine lv_if_ne (tgt := 28) hx hb dX6_takes_10 (by decide) (fun hc => ?_) (fun hc => ?_)
    · replace hF := dx_ib_t (dx_bI_n hc) hF
      refine lv_aload_n hx hb dX6_takes_28 rfl (lv_at hl 0 rfl) ?_
      refine mo_get S V 12 (by decide) rfl q1627 rfl dX6_takes_29 ?_
      refine lv_istore_n (lv' := [(3, .int (σ0.1 7)), (0, .ref h), (1, .int (dx_bI p0)), (2, .int p1)]) hx hb dX6_takes_32 rfl hl (by decide) rfl (fun ls hl => ?_)
      refine lv_aload_n hx hb dX6_takes_33 rfl (lv_at hl 1 rfl) ?_
      obtain ⟨σ2, h2c, hF⟩ := dx_b1_some hF
      refine mo_cVv S V [] (mo_m_advances l D di dz h ad A   σ0 _ h2c) (cwV 0 hts (lw_V q1756 q1758 qs40 q83 q1759) rfl rfl rfl mo_d_advances ⟨Nat.le_of_ble_eq_true rfl, Nat.le_of_ble_eq_true rfl⟩) rfl rfl hl.1 (Nat.le_of_ble_eq_true rfl) dX6_takes_34 (fun _ _ V => ?_)
      refine lv_iload_n hx hb dX6_takes_37 rfl (lv_at hl 0 rfl) ?_
      obtain ⟨hF1, hF2⟩ := dx_r2 hF
      subst hF1
      subst hF2
      exact mo_ri S V hr hlocks rfl dX6_takes_38
    · replace hF := dx_ib_f (dx_bI_0 hc) hF
      refine lv_aload_n hx hb dX6_takes_13 rfl (lv_at hl 0 rfl) ?_
      refine lv_aload_n hx hb dX6_takes_14 rfl (lv_at hl 0 rfl) ?_
      refine mo_get S V 10 (by decide) rfl q1625 rfl dX6_takes_15 ?_
      refine mo_put S V 8 3 (by decide) rfl q1623 rfl rfl rfl dX6_takes_18 (fun _ _ V => ?_)
      refine lv_aload_n hx hb dX6_takes_21 rfl (lv_at hl 0 rfl) ?_
      refine lv_iload_n hx hb dX6_takes_22 rfl (lv_at hl 2 rfl) ?_
      refine mo_put S V 7 2 (by decide) rfl q1622 rfl rfl rfl dX6_takes_23 (fun _ _ V => ?_)
      refine lv_iconst (v := 0) hx hb dX6_takes_26 (by decide) ?_
      obtain ⟨hF1, hF2⟩ := dx_r2 hF
      subst hF1
      subst hF2
      exact mo_ri S V hr hlocks rfl dX6_takes_27
  · replace hF := dx_ib_f (dx_bI_0 hc) hF
    refine lv_iconst (v := 0) hx hb dX6_takes_7 (by decide) ?_
    obtain ⟨hF1, hF2⟩ := dx_r2 hF
    subst hF1
    subst hF2
    exact mo_ri S V hr hlocks rfl dX6_takes_8
theorem mo_d_figure : yX6_figure.cls = RX6 ∧ yX6_figure.cls ≠ "java/lang/invoke/MethodHandle" ∧ yX6_figure.cls ≠ "java/lang/invoke/VarHandle" ∧ (parseMethodDescriptor yX6_figure.desc).map (fun d => d.parameters.length) = some 2 := by decide +kernel
set_option maxHeartbeats 4000000 in
set_option maxRecDepth 100000 in
theorem mo_m_figure (l : Launch) (D : va_G) (di dz : ClassId) (h : Nat) (ad : Nat → Nat) (A : Nat → Prop)  (p0 : Int32) (p1 : Int32) (σ0 : mo_S) (r : Int32) (σ' : mo_S) (hF : mo_figure σ0 p0 p1 = some (r, σ')) : mo_Ci l yX6_figure cX6_figure 3 .int ({ frames := 3, cells := 0, slots := 0, locals := 66 }) D di dz h ad A [.ref h, .int p0, .int p1] σ0 r σ' := by
  refine dx_in RX6 rfl (by decide) (Nat.le_of_ble_eq_true rfl) ?_
  intro p e s m below meth c ls S hr hlocks hv hl
  have hx := S.1
  have hb := S.2.1
  have hown := S.2.2.2.1
  have hts := S.2.2.2.2
  obtain ⟨hK, hP, hD⟩ := hv
  have V : mo_V D di dz h ad A s.heap σ0 s s.heap [] := ⟨hK, hP, hD, va_S.rf⟩
  replace hl : lv_has ls 3 [(0, .ref h), (1, .int p0), (2, .int p1)] := hl
  unfold mo_figure at hF
  have hJ22 : ∀ (σ : mo_S) (v1 : Int32) (v2 : Int32) (H : Heap) (locs : List Loc) (ls : Array Slot), mo_figure_J22 σ v1 v2 = some (r, σ') → mo_V D di dz h ad A s.heap σ s H locs → lv_has ls 3 [(0, .ref h), (1, .int v1), (2, .int v2)] → W p l e ({ frames := 3, cells := 0, slots := 0, locals := 66 }) s m ([.ref h, .int p0, .int p1] : List Value).toArray below meth c H locs 0 0 (MQ below (mo_Qi D di dz h ad A r σ') ([.ref h, .int p0, .int p1] : List Value).toArray s 0 0 A) (F0 m 22 ls []) := by
    intro σ v1 v2 H locs ls hF V hl
    unfold mo_figure_J22 at hF
    refine lv_aload_n hx hb dX6_figure_22 rfl (lv_at hl 0 rfl) ?_
    refine lv_aload_n hx hb dX6_figure_23 rfl (lv_at hl 0 rfl) ?_
    refine mo_get S V 12 (by decide) rfl q1627 rfl dX6_figure_24 ?_
    refine lv_iload_n hx hb dX6_figure_27 rfl (lv_at hl 1 rfl) ?_
    refine lv_iload_n hx hb dX6_figure_28 rfl (lv_at hl 2 rfl) ?_
    obtain ⟨r2, h2c, hF⟩ := dx_b1_some hF
    refine dx_cPi S [.int (σ.1 7), .int v1, .int v2] (mo_m_in l (σ.1 7) v1 v2 _ h2c) (va_cwS 3 hts (lw_S q1711 q1712 q83 q1713) rfl rfl rfl mo_d_in ⟨Nat.le_of_ble_eq_true rfl, Nat.le_of_ble_eq_true rfl⟩) rfl rfl hl.1 (Nat.le_of_ble_eq_true rfl) dX6_figure_29 ⟨Nat.zero_le _, Nat.zero_le _⟩ ?_
    refine lv_iconst (v := 2) hx hb dX6_figure_32 (by decide) ?_
    obtain ⟨r3, σ3, h3c, hF⟩ := dx_b2_some hF
    refine mo_cVi S V [.int (dx_bI r2), .int (2 : Int32)] (mo_m_takes l D di dz h ad A  r2 (2 : Int32) σ _ _ h3c) (cwV 2 hts (lw_V q1764 q1766 qs42 q83 q1767) rfl rfl rfl mo_d_takes ⟨Nat.le_of_ble_eq_true rfl, Nat.le_of_ble_eq_true rfl⟩) rfl rfl hl.1 (Nat.le_of_ble_eq_true rfl) dX6_figure_33 (fun _ _ V => ?_)
    obtain ⟨hF1, hF2⟩ := dx_r2 hF
    subst hF1
    subst hF2
    exact mo_ri S V hr hlocks rfl dX6_figure_36
  refine lv_aload_n hx hb dX6_figure_0 rfl (lv_at hl 0 rfl) ?_
  obtain ⟨r1, h1c, hF⟩ := dx_b1_some hF
  refine mo_cVi S V [] (mo_m_isWell l D di dz h ad A   σ0 _ h1c) (cwV 0 hts (lw_V q1768 q1770 qs43 q83 q1771) rfl rfl rfl mo_d_isWell ⟨Nat.le_of_ble_eq_true rfl, Nat.le_of_ble_eq_true rfl⟩) rfl rfl hl.1 (Nat.le_of_ble_eq_true rfl) dX6_figure_1 (fun _ _ V => ?_)
  refine lv_if_eq (tgt := 22) hx hb dX6_figure_4 (by decide) (fun hc => ?_) (fun hc => ?_)
  · replace hF := dx_ib_f (dx_bI_0 hc) hF
    exact hJ22 σ0 p0 p1 _ _ _ hF V (lv_sub hl [0, 1, 2] rfl)
  · replace hF := dx_ib_t (dx_bI_n hc) hF
    refine lv_aload_n hx hb dX6_figure_7 rfl (lv_at hl 0 rfl) ?_
    refine mo_get S V 11 (by decide) rfl q1626 rfl dX6_figure_8 ?_
    refine lv_iconst (v := 2) hx hb dX6_figure_11 (by decide) ?_
    refine lv_icmp_eq (tgt := 22) hx hb dX6_figure_12 (by decide) (fun hc => ?_) (fun hc => ?_)
    · replace hF := (if_pos hc).symm.trans hF
      exact hJ22 σ0 p0 p1 _ _ _ hF V (lv_sub hl [0, 1, 2] rfl)
    · replace hF := (if_neg hc).symm.trans hF
      refine lv_aload_n hx hb dX6_figure_15 rfl (lv_at hl 0 rfl) ?_
      refine lv_iconst (v := 0) hx hb dX6_figure_16 (by decide) ?_
      refine lv_iconst (v := 1) hx hb dX6_figure_17 (by decide) ?_
      obtain ⟨r4, σ4, h4c, hF⟩ := dx_b2_some hF
      refine mo_cVi S V [.int (0 : Int32), .int (1 : Int32)] (mo_m_takes l D di dz h ad A  false (1 : Int32) σ0 _ _ h4c) (cwV 2 hts (lw_V q1764 q1766 qs42 q83 q1767) rfl rfl rfl mo_d_takes ⟨Nat.le_of_ble_eq_true rfl, Nat.le_of_ble_eq_true rfl⟩) rfl rfl hl.1 (Nat.le_of_ble_eq_true rfl) dX6_figure_18 (fun _ _ V => ?_)
      obtain ⟨hF1, hF2⟩ := dx_r2 hF
      subst hF1
      subst hF2
      exact mo_ri S V hr hlocks rfl dX6_figure_21
theorem mo_d_behind : yX6_behind.cls = RX6 ∧ yX6_behind.cls ≠ "java/lang/invoke/MethodHandle" ∧ yX6_behind.cls ≠ "java/lang/invoke/VarHandle" ∧ (parseMethodDescriptor yX6_behind.desc).map (fun d => d.parameters.length) = some 2 := by decide +kernel
set_option maxHeartbeats 4000000 in
set_option maxRecDepth 100000 in
theorem mo_m_behind (l : Launch) (D : va_G) (di dz : ClassId) (h : Nat) (ad : Nat → Nat) (A : Nat → Prop)  (p0 : Int32) (p1 : Int32) (σ0 : mo_S) (r : Int32) (σ' : mo_S) (hF : mo_behind σ0 p0 p1 = some (r, σ')) : mo_Ci l yX6_behind cX6_behind 3 .int ({ frames := 4, cells := 0, slots := 0, locals := 88 }) D di dz h ad A [.ref h, .int p0, .int p1] σ0 r σ' := by
  refine dx_in RX6 rfl (by decide) (Nat.le_of_ble_eq_true rfl) ?_
  intro p e s m below meth c ls S hr hlocks hv hl
  have hx := S.1
  have hb := S.2.1
  have hown := S.2.2.2.1
  have hts := S.2.2.2.2
  obtain ⟨hK, hP, hD⟩ := hv
  have V : mo_V D di dz h ad A s.heap σ0 s s.heap [] := ⟨hK, hP, hD, va_S.rf⟩
  replace hl : lv_has ls 3 [(0, .ref h), (1, .int p0), (2, .int p1)] := hl
  unfold mo_behind at hF
  have hJ14 : ∀ (σ : mo_S) (v1 : Int32) (v2 : Int32) (t1 : Bool) (H : Heap) (locs : List Loc) (ls : Array Slot), mo_behind_J14 σ v1 v2 t1 = some (r, σ') → mo_V D di dz h ad A s.heap σ s H locs → lv_has ls 3 [(0, .ref h), (1, .int v1), (2, .int v2)] → W p l e ({ frames := 4, cells := 0, slots := 0, locals := 88 }) s m ([.ref h, .int p0, .int p1] : List Value).toArray below meth c H locs 0 0 (MQ below (mo_Qi D di dz h ad A r σ') ([.ref h, .int p0, .int p1] : List Value).toArray s 0 0 A) (F0 m 14 ls [.int (dx_bI t1), .ref h]) := by
    intro σ v1 v2 t1 H locs ls hF V hl
    unfold mo_behind_J14 at hF
    refine lv_iconst (v := 1) hx hb dX6_behind_14 (by decide) ?_
    obtain ⟨r1, σ1, h1c, hF⟩ := dx_b2_some hF
    refine mo_cVi S V [.int (dx_bI t1), .int (1 : Int32)] (mo_m_takes l D di dz h ad A  t1 (1 : Int32) σ _ _ h1c) (cwV 2 hts (lw_V q1764 q1766 qs42 q83 q1767) rfl rfl rfl mo_d_takes ⟨Nat.le_of_ble_eq_true rfl, Nat.le_of_ble_eq_true rfl⟩) rfl rfl hl.1 (Nat.le_of_ble_eq_true rfl) dX6_behind_15 (fun _ _ V => ?_)
    refine lv_pop hx hb dX6_behind_18 rfl ?_
    refine lv_aload_n hx hb dX6_behind_19 rfl (lv_at hl 0 rfl) ?_
    refine lv_iload_n hx hb dX6_behind_20 rfl (lv_at hl 1 rfl) ?_
    refine lv_iload_n hx hb dX6_behind_21 rfl (lv_at hl 2 rfl) ?_
    obtain ⟨r2, σ2, h2c, hF⟩ := dx_b2_some hF
    refine mo_cVi S V [.int v1, .int v2] (mo_m_figure l D di dz h ad A  v1 v2 σ1 _ _ h2c) (cwV 2 hts (lw_V q1772 q1774 qs44 q83 q1775) rfl rfl rfl mo_d_figure ⟨Nat.le_of_ble_eq_true rfl, Nat.le_of_ble_eq_true rfl⟩) rfl rfl hl.1 (Nat.le_of_ble_eq_true rfl) dX6_behind_22 (fun _ _ V => ?_)
    obtain ⟨hF1, hF2⟩ := dx_r2 hF
    subst hF1
    subst hF2
    exact mo_ri S V hr hlocks rfl dX6_behind_25
  refine lv_aload_n hx hb dX6_behind_0 rfl (lv_at hl 0 rfl) ?_
  refine lv_aload_n hx hb dX6_behind_1 rfl (lv_at hl 0 rfl) ?_
  refine mo_get S V 11 (by decide) rfl q1626 rfl dX6_behind_2 ?_
  refine lv_iconst (v := 3) hx hb dX6_behind_5 (by decide) ?_
  refine lv_icmp_ne (tgt := 13) hx hb dX6_behind_6 (by decide) (fun hc => ?_) (fun hc => ?_)
  · replace hF := (if_neg hc).symm.trans hF
    refine lv_iconst (v := 0) hx hb dX6_behind_13 (by decide) ?_
    exact hJ14 σ0 p0 p1 false _ _ _ hF V (lv_sub hl [0, 1, 2] rfl)
  · replace hF := (if_pos hc).symm.trans hF
    refine lv_iconst (v := 1) hx hb dX6_behind_9 (by decide) ?_
    refine lv_goto (tgt := 14) hx hb dX6_behind_10 (by decide) ?_
    exact hJ14 σ0 p0 p1 true _ _ _ hF V (lv_sub hl [0, 1, 2] rfl)
theorem mo_d_kindOf : yX6_kindOf.cls ≠ "java/lang/invoke/MethodHandle" ∧ yX6_kindOf.cls ≠ "java/lang/invoke/VarHandle" ∧ (parseMethodDescriptor yX6_kindOf.desc).map (fun d => d.parameters.length) = some 1 := by decide +kernel
set_option maxHeartbeats 4000000 in
set_option maxRecDepth 100000 in
theorem mo_m_kindOf (l : Launch) (p0 : Int32) (r : Int32) (hF : mo_kindOf p0 = some r) : dx_Pi l yX6_kindOf cX6_kindOf 1 .int ({ frames := 0, cells := 0, slots := 0, locals := 0 }) [.int p0] r := by
  refine dx_in RX6 rfl (by decide) (Nat.le_of_ble_eq_true rfl) ?_
  intro p e s m below meth c ls S hr hlocks hv hl
  have hx := S.1
  have hb := S.2.1
  have hown := S.2.2.2.1
  have hts := S.2.2.2.2
  replace hl : lv_has ls 1 [(0, .int p0)] := hl
  unfold mo_kindOf at hF
  refine lv_iload_n hx hb dX6_kindOf_0 rfl (lv_at hl 0 rfl) ?_
  refine lv_bipush (v := 111) hx hb dX6_kindOf_1 (by decide) ?_
  refine lv_icmp_ne (tgt := 10) hx hb dX6_kindOf_3 (by decide) (fun hc => ?_) (fun hc => ?_)
  · replace hF := (if_neg hc).symm.trans hF
    refine lv_iload_n hx hb dX6_kindOf_10 rfl (lv_at hl 0 rfl) ?_
    refine lv_bipush (v := 108) hx hb dX6_kindOf_11 (by decide) ?_
    refine lv_icmp_ne (tgt := 20) hx hb dX6_kindOf_13 (by decide) (fun hc => ?_) (fun hc => ?_)
    · replace hF := (if_neg hc).symm.trans hF
      refine lv_iload_n hx hb dX6_kindOf_20 rfl (lv_at hl 0 rfl) ?_
      refine lv_bipush (v := 104) hx hb dX6_kindOf_21 (by decide) ?_
      refine lv_icmp_ne (tgt := 30) hx hb dX6_kindOf_23 (by decide) (fun hc => ?_) (fun hc => ?_)
      · replace hF := (if_neg hc).symm.trans hF
        refine lv_iload_n hx hb dX6_kindOf_30 rfl (lv_at hl 0 rfl) ?_
        refine lv_bipush (v := 100) hx hb dX6_kindOf_31 (by decide) ?_
        refine lv_icmp_ne (tgt := 40) hx hb dX6_kindOf_33 (by decide) (fun hc => ?_) (fun hc => ?_)
        · replace hF := (if_neg hc).symm.trans hF
          refine lv_iload_n hx hb dX6_kindOf_40 rfl (lv_at hl 0 rfl) ?_
          refine lv_bipush (v := 115) hx hb dX6_kindOf_41 (by decide) ?_
          refine lv_icmp_ne (tgt := 50) hx hb dX6_kindOf_43 (by decide) (fun hc => ?_) (fun hc => ?_)
          · replace hF := (if_neg hc).symm.trans hF
            refine lv_iconst (v := 0) hx hb dX6_kindOf_50 (by decide) ?_
            replace hF := Option.some.inj hF
            subst hF
            exact dx_rPi S hr hlocks rfl dX6_kindOf_51
          · replace hF := (if_pos hc).symm.trans hF
            refine lv_iconst (v := 5) hx hb dX6_kindOf_46 (by decide) ?_
            refine lv_goto (tgt := 51) hx hb dX6_kindOf_47 (by decide) ?_
            replace hF := Option.some.inj hF
            subst hF
            exact dx_rPi S hr hlocks rfl dX6_kindOf_51
        · replace hF := (if_pos hc).symm.trans hF
          refine lv_iconst (v := 4) hx hb dX6_kindOf_36 (by decide) ?_
          refine lv_goto (tgt := 51) hx hb dX6_kindOf_37 (by decide) ?_
          replace hF := Option.some.inj hF
          subst hF
          exact dx_rPi S hr hlocks rfl dX6_kindOf_51
      · replace hF := (if_pos hc).symm.trans hF
        refine lv_iconst (v := 3) hx hb dX6_kindOf_26 (by decide) ?_
        refine lv_goto (tgt := 51) hx hb dX6_kindOf_27 (by decide) ?_
        replace hF := Option.some.inj hF
        subst hF
        exact dx_rPi S hr hlocks rfl dX6_kindOf_51
    · replace hF := (if_pos hc).symm.trans hF
      refine lv_iconst (v := 2) hx hb dX6_kindOf_16 (by decide) ?_
      refine lv_goto (tgt := 51) hx hb dX6_kindOf_17 (by decide) ?_
      replace hF := Option.some.inj hF
      subst hF
      exact dx_rPi S hr hlocks rfl dX6_kindOf_51
  · replace hF := (if_pos hc).symm.trans hF
    refine lv_iconst (v := 1) hx hb dX6_kindOf_6 (by decide) ?_
    refine lv_goto (tgt := 51) hx hb dX6_kindOf_7 (by decide) ?_
    replace hF := Option.some.inj hF
    subst hF
    exact dx_rPi S hr hlocks rfl dX6_kindOf_51
theorem mo_d_readsPerson : yX6_readsPerson.cls = RX6 ∧ yX6_readsPerson.cls ≠ "java/lang/invoke/MethodHandle" ∧ yX6_readsPerson.cls ≠ "java/lang/invoke/VarHandle" ∧ (parseMethodDescriptor yX6_readsPerson.desc).map (fun d => d.parameters.length) = some 0 := by decide +kernel
set_option maxHeartbeats 4000000 in
set_option maxRecDepth 100000 in
theorem mo_m_readsPerson (l : Launch) (D : va_G) (di dz : ClassId) (h : Nat) (ad : Nat → Nat) (A : Nat → Prop)   (σ0 : mo_S) (σ' : mo_S) (hF : mo_readsPerson σ0 = some σ') : mo_Cv l yX6_readsPerson cX6_readsPerson 3 ({ frames := 3, cells := 0, slots := 0, locals := 66 }) D di dz h ad A [.ref h] σ0 σ' := by
  refine dx_in RX6 rfl (by decide) (Nat.le_of_ble_eq_true rfl) ?_
  intro p e s m below meth c ls S hr hlocks hv hl
  have hx := S.1
  have hb := S.2.1
  have hown := S.2.2.2.1
  have hts := S.2.2.2.2
  obtain ⟨hK, hP, hD⟩ := hv
  have V : mo_V D di dz h ad A s.heap σ0 s s.heap [] := ⟨hK, hP, hD, va_S.rf⟩
  replace hl : lv_has ls 3 [(0, .ref h)] := hl
  unfold mo_readsPerson at hF
  have hJ44 : ∀ (σ : mo_S) (v1 : Int32) (t1 : Bool) (H : Heap) (locs : List Loc) (ls : Array Slot), mo_readsPerson_J44 σ v1 t1 = some σ' → mo_V D di dz h ad A s.heap σ s H locs → lv_has ls 3 [(0, .ref h), (1, .int v1)] → W p l e ({ frames := 3, cells := 0, slots := 0, locals := 66 }) s m ([.ref h] : List Value).toArray below meth c H locs 0 0 (MQ below (mo_Qv D di dz h ad A σ') ([.ref h] : List Value).toArray s 0 0 A) (F0 m 44 ls [.int (dx_bI t1), .ref h]) := by
    intro σ v1 t1 H locs ls hF V hl
    unfold mo_readsPerson_J44 at hF
    refine lv_iconst (v := 1) hx hb dX6_readsPerson_44 (by decide) ?_
    obtain ⟨r3, σ3, h3c, hF⟩ := dx_b2_some hF
    refine mo_cVi S V [.int (dx_bI t1), .int (1 : Int32)] (mo_m_takes l D di dz h ad A  t1 (1 : Int32) σ _ _ h3c) (cwV 2 hts (lw_V q1764 q1766 qs42 q83 q1767) rfl rfl rfl mo_d_takes ⟨Nat.le_of_ble_eq_true rfl, Nat.le_of_ble_eq_true rfl⟩) rfl rfl hl.1 (Nat.le_of_ble_eq_true rfl) dX6_readsPerson_45 (fun _ _ V => ?_)
    refine lv_pop hx hb dX6_readsPerson_48 rfl ?_
    refine lv_aload_n hx hb dX6_readsPerson_49 rfl (lv_at hl 0 rfl) ?_
    obtain ⟨r4, h4c, hF⟩ := dx_b1_some hF
    refine mo_cVi S V [] (mo_m_isWell l D di dz h ad A   σ3 _ h4c) (cwV 0 hts (lw_V q1768 q1770 qs43 q83 q1771) rfl rfl rfl mo_d_isWell ⟨Nat.le_of_ble_eq_true rfl, Nat.le_of_ble_eq_true rfl⟩) rfl rfl hl.1 (Nat.le_of_ble_eq_true rfl) dX6_readsPerson_50 (fun _ _ V => ?_)
    refine lv_if_eq (tgt := 93) hx hb dX6_readsPerson_53 (by decide) (fun hc => ?_) (fun hc => ?_)
    · replace hF := dx_ib_f (dx_bI_0 hc) hF
      replace hF := Option.some.inj hF
      subst hF
      exact mo_rv S V hr hlocks dX6_readsPerson_93
    · replace hF := dx_ib_t (dx_bI_n hc) hF
      refine lv_iconst (v := 4) hx hb dX6_readsPerson_56 (by decide) ?_
      refine lv_iconst (v := 2) hx hb dX6_readsPerson_57 (by decide) ?_
      refine lv_aload_n hx hb dX6_readsPerson_58 rfl (lv_at hl 0 rfl) ?_
      refine mo_get S V 14 (by decide) rfl q1629 rfl dX6_readsPerson_59 ?_
      refine lv_iconst (v := 0) hx hb dX6_readsPerson_62 (by decide) ?_
      refine mo_ld S V 6 (by decide) (dx_inb_in rfl) dX6_readsPerson_63 ?_
      refine lv_imul hx hb dX6_readsPerson_64 ?_
      refine lv_iadd hx hb dX6_readsPerson_65 ?_
      refine lv_istore_n (lv' := [(2, .int ((4 : Int32) + ((2 : Int32) * (σ3.2 6 (0 : Int32).toNatClampNeg)))), (0, .ref h), (1, .int v1)]) hx hb dX6_readsPerson_66 rfl hl (by decide) rfl (fun ls hl => ?_)
      refine lv_aload_n hx hb dX6_readsPerson_67 rfl (lv_at hl 1 rfl) ?_
      refine mo_get S V 14 (by decide) rfl q1629 rfl dX6_readsPerson_68 ?_
      refine lv_iload_n hx hb dX6_readsPerson_71 rfl (lv_at hl 0 rfl) ?_
      refine lv_iload_n hx hb dX6_readsPerson_72 rfl (lv_at hl 2 rfl) ?_
      obtain ⟨hg, hF⟩ := dx_gd_some hF
      refine mo_st S V 6 (by decide) (dx_inb_in hg) dX6_readsPerson_73 (fun _ _ V => ?_)
      refine lv_aload_n hx hb dX6_readsPerson_74 rfl (lv_at hl 1 rfl) ?_
      refine mo_get S V 14 (by decide) rfl q1629 rfl dX6_readsPerson_75 ?_
      refine lv_iload_n hx hb dX6_readsPerson_78 rfl (lv_at hl 0 rfl) ?_
      refine lv_iconst (v := 1) hx hb dX6_readsPerson_79 (by decide) ?_
      refine lv_iadd hx hb dX6_readsPerson_80 ?_
      refine lv_iconst (v := (-1)) hx hb dX6_readsPerson_81 (by decide) ?_
      obtain ⟨hg, hF⟩ := dx_gd_some hF
      refine mo_st S V 6 (by decide) (dx_inb_in hg) dX6_readsPerson_82 (fun _ _ V => ?_)
      refine lv_aload_n hx hb dX6_readsPerson_83 rfl (lv_at hl 1 rfl) ?_
      refine mo_get S V 14 (by decide) rfl q1629 rfl dX6_readsPerson_84 ?_
      refine lv_iconst (v := 0) hx hb dX6_readsPerson_87 (by decide) ?_
      refine lv_dup2_11 hx hb dX6_readsPerson_88 rfl rfl ?_
      refine mo_ld S V 6 (by decide) (dx_inb_in rfl) dX6_readsPerson_89 ?_
      refine lv_iconst (v := 1) hx hb dX6_readsPerson_90 (by decide) ?_
      refine lv_iadd hx hb dX6_readsPerson_91 ?_
      refine mo_st S V 6 (by decide) (dx_inb_in rfl) dX6_readsPerson_92 (fun _ _ V => ?_)
      replace hF := Option.some.inj hF
      subst hF
      exact mo_rv S V hr hlocks dX6_readsPerson_93
  have hJ25 : ∀ (σ : mo_S) (v1 : Int32) (t1 : Bool) (H : Heap) (locs : List Loc) (ls : Array Slot), mo_readsPerson_J25 σ v1 t1 = some σ' → mo_V D di dz h ad A s.heap σ s H locs → lv_has ls 3 [(0, .ref h), (1, .int v1)] → W p l e ({ frames := 3, cells := 0, slots := 0, locals := 66 }) s m ([.ref h] : List Value).toArray below meth c H locs 0 0 (MQ below (mo_Qv D di dz h ad A σ') ([.ref h] : List Value).toArray s 0 0 A) (F0 m 25 ls [.int (dx_bI t1), .ref h]) := by
    intro σ v1 t1 H locs ls hF V hl
    unfold mo_readsPerson_J25 at hF
    refine lv_iconst (v := 3) hx hb dX6_readsPerson_25 (by decide) ?_
    obtain ⟨r2, σ2, h2c, hF⟩ := dx_b2_some hF
    refine mo_cVi S V [.int (dx_bI t1), .int (3 : Int32)] (mo_m_takes l D di dz h ad A  t1 (3 : Int32) σ _ _ h2c) (cwV 2 hts (lw_V q1764 q1766 qs42 q83 q1767) rfl rfl rfl mo_d_takes ⟨Nat.le_of_ble_eq_true rfl, Nat.le_of_ble_eq_true rfl⟩) rfl rfl hl.1 (Nat.le_of_ble_eq_true rfl) dX6_readsPerson_26 (fun _ _ V => ?_)
    refine lv_pop hx hb dX6_readsPerson_29 rfl ?_
    refine lv_aload_n hx hb dX6_readsPerson_30 rfl (lv_at hl 0 rfl) ?_
    refine lv_aload_n hx hb dX6_readsPerson_31 rfl (lv_at hl 0 rfl) ?_
    refine mo_get S V 11 (by decide) rfl q1626 rfl dX6_readsPerson_32 ?_
    refine lv_iconst (v := 4) hx hb dX6_readsPerson_35 (by decide) ?_
    refine lv_icmp_ne (tgt := 43) hx hb dX6_readsPerson_36 (by decide) (fun hc => ?_) (fun hc => ?_)
    · replace hF := (if_neg hc).symm.trans hF
      refine lv_iconst (v := 0) hx hb dX6_readsPerson_43 (by decide) ?_
      exact hJ44 σ2 v1 false _ _ _ hF V (lv_sub hl [0, 1] rfl)
    · replace hF := (if_pos hc).symm.trans hF
      refine lv_iconst (v := 1) hx hb dX6_readsPerson_39 (by decide) ?_
      refine lv_goto (tgt := 44) hx hb dX6_readsPerson_40 (by decide) ?_
      exact hJ44 σ2 v1 true _ _ _ hF V (lv_sub hl [0, 1] rfl)
  refine lv_aload_n hx hb dX6_readsPerson_0 rfl (lv_at hl 0 rfl) ?_
  refine mo_get S V 12 (by decide) rfl q1627 rfl dX6_readsPerson_1 ?_
  obtain ⟨r1, h1c, hF⟩ := dx_b1_some hF
  refine dx_cPi S [.int (σ0.1 7)] (mo_m_kindOf l (σ0.1 7) _ h1c) (va_cwS 1 hts (lw_S q1780 q1781 q83 q1782) rfl rfl rfl mo_d_kindOf ⟨Nat.le_of_ble_eq_true rfl, Nat.le_of_ble_eq_true rfl⟩) rfl rfl hl.1 (Nat.le_of_ble_eq_true rfl) dX6_readsPerson_4 ⟨Nat.zero_le _, Nat.zero_le _⟩ ?_
  refine lv_istore_n (lv' := [(1, .int r1), (0, .ref h)]) hx hb dX6_readsPerson_7 rfl hl (by decide) rfl (fun ls hl => ?_)
  refine lv_aload_n hx hb dX6_readsPerson_8 rfl (lv_at hl 1 rfl) ?_
  refine lv_aload_n hx hb dX6_readsPerson_9 rfl (lv_at hl 1 rfl) ?_
  refine mo_get S V 14 (by decide) rfl q1629 rfl dX6_readsPerson_10 ?_
  refine lv_iconst (v := 0) hx hb dX6_readsPerson_13 (by decide) ?_
  refine mo_ld S V 6 (by decide) (dx_inb_in rfl) dX6_readsPerson_14 ?_
  refine lv_bipush (v := 9) hx hb dX6_readsPerson_15 (by decide) ?_
  refine lv_icmp_ge (tgt := 24) hx hb dX6_readsPerson_17 (by decide) (fun hc => ?_) (fun hc => ?_)
  · replace hF := (if_pos hc).symm.trans hF
    refine lv_iconst (v := 0) hx hb dX6_readsPerson_24 (by decide) ?_
    exact hJ25 σ0 r1 false _ _ _ hF V (lv_sub hl [1, 0] rfl)
  · replace hF := (if_neg hc).symm.trans hF
    refine lv_iconst (v := 1) hx hb dX6_readsPerson_20 (by decide) ?_
    refine lv_goto (tgt := 25) hx hb dX6_readsPerson_21 (by decide) ?_
    exact hJ25 σ0 r1 true _ _ _ hF V (lv_sub hl [1, 0] rfl)
theorem mo_d_must : yX6_must.cls = RX6 ∧ yX6_must.cls ≠ "java/lang/invoke/MethodHandle" ∧ yX6_must.cls ≠ "java/lang/invoke/VarHandle" ∧ (parseMethodDescriptor yX6_must.desc).map (fun d => d.parameters.length) = some 2 := by decide +kernel
set_option maxHeartbeats 4000000 in
set_option maxRecDepth 100000 in
theorem mo_m_must (l : Launch) (D : va_G) (di dz : ClassId) (h : Nat) (ad : Nat → Nat) (A : Nat → Prop)  (p0 : Bool) (p1 : Int32) (σ0 : mo_S) (σ' : mo_S) (hF : mo_must σ0 p0 p1 = some σ') : mo_Cv l yX6_must cX6_must 3 ({ frames := 3, cells := 0, slots := 0, locals := 66 }) D di dz h ad A [.ref h, .int (dx_bI p0), .int p1] σ0 σ' := by
  refine dx_in RX6 rfl (by decide) (Nat.le_of_ble_eq_true rfl) ?_
  intro p e s m below meth c ls S hr hlocks hv hl
  have hx := S.1
  have hb := S.2.1
  have hown := S.2.2.2.1
  have hts := S.2.2.2.2
  obtain ⟨hK, hP, hD⟩ := hv
  have V : mo_V D di dz h ad A s.heap σ0 s s.heap [] := ⟨hK, hP, hD, va_S.rf⟩
  replace hl : lv_has ls 3 [(0, .ref h), (1, .int (dx_bI p0)), (2, .int p1)] := hl
  unfold mo_must at hF
  refine lv_aload_n hx hb dX6_must_0 rfl (lv_at hl 0 rfl) ?_
  obtain ⟨r1, h1c, hF⟩ := dx_b1_some hF
  refine mo_cVi S V [] (mo_m_isWell l D di dz h ad A   σ0 _ h1c) (cwV 0 hts (lw_V q1768 q1770 qs43 q83 q1771) rfl rfl rfl mo_d_isWell ⟨Nat.le_of_ble_eq_true rfl, Nat.le_of_ble_eq_true rfl⟩) rfl rfl hl.1 (Nat.le_of_ble_eq_true rfl) dX6_must_1 (fun _ _ V => ?_)
  refine lv_if_eq (tgt := 18) hx hb dX6_must_4 (by decide) (fun hc => ?_) (fun hc => ?_)
  · replace hF := dx_ib_f (dx_bI_0 hc) hF
    replace hF := Option.some.inj hF
    subst hF
    exact mo_rv S V hr hlocks dX6_must_18
  · replace hF := dx_ib_t (dx_bI_n hc) hF
    refine lv_iload_n hx hb dX6_must_7 rfl (lv_at hl 1 rfl) ?_
    refine lv_if_ne (tgt := 18) hx hb dX6_must_8 (by decide) (fun hc => ?_) (fun hc => ?_)
    · replace hF := dx_ib_t (dx_bI_n hc) hF
      replace hF := Option.some.inj hF
      subst hF
      exact mo_rv S V hr hlocks dX6_must_18
    · replace hF := dx_ib_f (dx_bI_0 hc) hF
      refine lv_aload_n hx hb dX6_must_11 rfl (lv_at hl 0 rfl) ?_
      refine lv_iconst (v := 0) hx hb dX6_must_12 (by decide) ?_
      refine lv_iload_n hx hb dX6_must_13 rfl (lv_at hl 2 rfl) ?_
      obtain ⟨r2, σ2, h2c, hF⟩ := dx_b2_some hF
      refine mo_cVi S V [.int (0 : Int32), .int p1] (mo_m_takes l D di dz h ad A  false p1 σ0 _ _ h2c) (cwV 2 hts (lw_V q1764 q1766 qs42 q83 q1767) rfl rfl rfl mo_d_takes ⟨Nat.le_of_ble_eq_true rfl, Nat.le_of_ble_eq_true rfl⟩) rfl rfl hl.1 (Nat.le_of_ble_eq_true rfl) dX6_must_14 (fun _ _ V => ?_)
      refine lv_pop hx hb dX6_must_17 rfl ?_
      replace hF := Option.some.inj hF
      subst hF
      exact mo_rv S V hr hlocks dX6_must_18
