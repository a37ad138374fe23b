/-! DatedContactsModel read back and walked (printed by gen/mo.py) -/
theorem mo_d_isLetter : yX6_isLetter.cls = RX6 ∧ yX6_isLetter.cls ≠ "java/lang/invoke/MethodHandle" ∧ yX6_isLetter.cls ≠ "java/lang/invoke/VarHandle" ∧ (parseMethodDescriptor yX6_isLetter.desc).map (fun d => d.parameters.length) = some 1 := by decide +kernel
set_option maxHeartbeats 4000000 in
set_option maxRecDepth 100000 in
theorem mo_m_isLetter (l : Launch) (D : va_G) (di dz : ClassId) (h : Nat) (ad : Nat → Nat) (A : Nat → Prop)  (p0 : Int32) (σ0 : mo_S) (r : Bool) (hF : mo_isLetter σ0 p0 = some r) : mo_Ci l yX6_isLetter cX6_isLetter 2 .boolean ({ frames := 1, cells := 0, slots := 0, locals := 20 }) D di dz h ad A [.ref h, .int p0] σ0 (dx_bI r) σ0 := by
  refine dx_in RX6 rfl (by decide) (Nat.le_of_ble_eq_true rfl) ?_
  intro p e s m below meth c ls S hr hlocks hv hl
  have hx := S.1
  have hb := S.2.1
  have hown := S.2.2.2.1
  have hts := S.2.2.2.2
  obtain ⟨hK, hP, hD⟩ := hv
  have V : mo_V D di dz h ad A s.heap σ0 s s.heap [] := ⟨hK, hP, hD, va_S.rf⟩
  replace hl : lv_has ls 2 [(0, .ref h), (1, .int p0)] := hl
  unfold mo_isLetter at hF
  refine lv_aload_n hx hb dX6_isLetter_0 rfl (lv_at hl 0 rfl) ?_
  obtain ⟨r1, h1c, hF⟩ := dx_b1_some hF
  refine mo_cVi S V [] (mo_m_isWell l D di dz h ad A   σ0 _ h1c) (cwV 0 hts (lw_V q1768 q1770 qs43 q83 q1771) rfl rfl rfl mo_d_isWell ⟨Nat.le_of_ble_eq_true rfl, Nat.le_of_ble_eq_true rfl⟩) rfl rfl hl.1 (Nat.le_of_ble_eq_true rfl) dX6_isLetter_1 (fun _ _ V => ?_)
  refine lv_if_eq (tgt := 27) hx hb dX6_isLetter_4 (by decide) (fun hc => ?_) (fun hc => ?_)
  · replace hF := dx_ib_f (dx_bI_0 hc) hF
    refine lv_iconst (v := 0) hx hb dX6_isLetter_27 (by decide) ?_
    replace hF := Option.some.inj hF
    subst hF
    exact mo_ri S V hr hlocks rfl dX6_isLetter_28
  · replace hF := dx_ib_t (dx_bI_n hc) hF
    refine lv_aload_n hx hb dX6_isLetter_7 rfl (lv_at hl 0 rfl) ?_
    refine mo_get S V 11 (by decide) rfl q1626 rfl dX6_isLetter_8 ?_
    refine lv_iconst (v := 1) hx hb dX6_isLetter_11 (by decide) ?_
    refine lv_icmp_ne (tgt := 27) hx hb dX6_isLetter_12 (by decide) (fun hc => ?_) (fun hc => ?_)
    · replace hF := (if_neg hc).symm.trans hF
      refine lv_iconst (v := 0) hx hb dX6_isLetter_27 (by decide) ?_
      replace hF := Option.some.inj hF
      subst hF
      exact mo_ri S V hr hlocks rfl dX6_isLetter_28
    · replace hF := (if_pos hc).symm.trans hF
      refine lv_aload_n hx hb dX6_isLetter_15 rfl (lv_at hl 0 rfl) ?_
      refine mo_get S V 12 (by decide) rfl q1627 rfl dX6_isLetter_16 ?_
      refine lv_iload_n hx hb dX6_isLetter_19 rfl (lv_at hl 1 rfl) ?_
      refine lv_icmp_ne (tgt := 27) hx hb dX6_isLetter_20 (by decide) (fun hc => ?_) (fun hc => ?_)
      · replace hF := (if_neg hc).symm.trans hF
        refine lv_iconst (v := 0) hx hb dX6_isLetter_27 (by decide) ?_
        replace hF := Option.some.inj hF
        subst hF
        exact mo_ri S V hr hlocks rfl dX6_isLetter_28
      · replace hF := (if_pos hc).symm.trans hF
        refine lv_iconst (v := 1) hx hb dX6_isLetter_23 (by decide) ?_
        refine lv_goto (tgt := 28) hx hb dX6_isLetter_24 (by decide) ?_
        replace hF := Option.some.inj hF
        subst hF
        exact mo_ri S V hr hlocks rfl dX6_isLetter_28
theorem mo_d_readsContact : yX6_readsContact.cls = RX6 ∧ yX6_readsContact.cls ≠ "java/lang/invoke/MethodHandle" ∧ yX6_readsContact.cls ≠ "java/lang/invoke/VarHandle" ∧ (parseMethodDescriptor yX6_readsContact.desc).map (fun d => d.parameters.length) = some 0 := by decide +kernel
set_option maxHeartbeats 4000000 in
set_option maxRecDepth 100000 in
theorem mo_m_readsContact (l : Launch) (D : va_G) (di dz : ClassId) (h : Nat) (ad : Nat → Nat) (A : Nat → Prop)   (σ0 : mo_S) (σ' : mo_S) (hF : mo_readsContact σ0 = some σ') : mo_Cv l yX6_readsContact cX6_readsContact 5 ({ frames := 5, cells := 0, slots := 0, locals := 110 }) D di dz h ad A [.ref h] σ0 σ' := by
  refine dx_in RX6 rfl (by decide) (Nat.le_of_ble_eq_true rfl) ?_
  intro p e s m below meth c ls S hr hlocks hv hl
  have hx := S.1
  have hb := S.2.1
  have hown := S.2.2.2.1
  have hts := S.2.2.2.2
  obtain ⟨hK, hP, hD⟩ := hv
  have V : mo_V D di dz h ad A s.heap σ0 s s.heap [] := ⟨hK, hP, hD, va_S.rf⟩
  replace hl : lv_has ls 5 [(0, .ref h)] := hl
  unfold mo_readsContact at hF
  have hJ117 : ∀ (σ : mo_S) (v1 : Int32) (v2 : Int32) (v3 : Int32) (t1 : Bool) (H : Heap) (locs : List Loc) (ls : Array Slot), mo_readsContact_J117 σ v1 v2 v3 t1 = some σ' → mo_V D di dz h ad A s.heap σ s H locs → lv_has ls 5 [(0, .ref h), (1, .int v1), (2, .int v2), (3, .int v3)] → W p l e ({ frames := 5, cells := 0, slots := 0, locals := 110 }) s m ([.ref h] : List Value).toArray below meth c H locs 0 0 (MQ below (mo_Qv D di dz h ad A σ') ([.ref h] : List Value).toArray s 0 0 A) (F0 m 117 ls [.int (dx_bI t1), .ref h]) := by
    intro σ v1 v2 v3 t1 H locs ls hF V hl
    unfold mo_readsContact_J117 at hF
    refine lv_iconst (v := 1) hx hb dX6_readsContact_117 (by decide) ?_
    obtain ⟨r7, σ7, h7c, hF⟩ := dx_b2_some hF
    refine mo_cVi S V [.int (dx_bI t1), .int (1 : Int32)] (mo_m_takes l D di dz h ad A  t1 (1 : Int32) σ _ _ h7c) (cwV 2 hts (lw_V q1764 q1766 qs42 q83 q1767) rfl rfl rfl mo_d_takes ⟨Nat.le_of_ble_eq_true rfl, Nat.le_of_ble_eq_true rfl⟩) rfl rfl hl.1 (Nat.le_of_ble_eq_true rfl) dX6_readsContact_118 (fun _ _ V => ?_)
    refine lv_pop hx hb dX6_readsContact_121 rfl ?_
    refine lv_aload_n hx hb dX6_readsContact_122 rfl (lv_at hl 0 rfl) ?_
    obtain ⟨r8, h8c, hF⟩ := dx_b1_some hF
    refine mo_cVi S V [] (mo_m_isWell l D di dz h ad A   σ7 _ h8c) (cwV 0 hts (lw_V q1768 q1770 qs43 q83 q1771) rfl rfl rfl mo_d_isWell ⟨Nat.le_of_ble_eq_true rfl, Nat.le_of_ble_eq_true rfl⟩) rfl rfl hl.1 (Nat.le_of_ble_eq_true rfl) dX6_readsContact_123 (fun _ _ V => ?_)
    refine lv_if_eq (tgt := 180) hx hb dX6_readsContact_126 (by decide) (fun hc => ?_) (fun hc => ?_)
    · replace hF := dx_ib_f (dx_bI_0 hc) hF
      replace hF := Option.some.inj hF
      subst hF
      exact mo_rv S V hr hlocks dX6_readsContact_180
    · replace hF := dx_ib_t (dx_bI_n hc) hF
      refine lv_bipush (v := 22) hx hb dX6_readsContact_129 (by decide) ?_
      refine lv_iconst (v := 3) hx hb dX6_readsContact_131 (by decide) ?_
      refine lv_aload_n hx hb dX6_readsContact_132 rfl (lv_at hl 0 rfl) ?_
      refine mo_get S V 14 (by decide) rfl q1629 rfl dX6_readsContact_133 ?_
      refine lv_iconst (v := 1) hx hb dX6_readsContact_136 (by decide) ?_
      refine mo_ld S V 6 (by decide) (dx_inb_in rfl) dX6_readsContact_137 ?_
      refine lv_imul hx hb dX6_readsContact_138 ?_
      refine lv_iadd hx hb dX6_readsContact_139 ?_
      refine lv_istore (lv' := [(4, .int ((22 : Int32) + ((3 : Int32) * (σ7.2 6 (1 : Int32).toNatClampNeg)))), (0, .ref h), (1, .int v1), (2, .int v2), (3, .int v3)]) hx hb dX6_readsContact_140 hl (by decide) rfl (fun ls hl => ?_)
      refine lv_aload_n hx hb dX6_readsContact_142 rfl (lv_at hl 1 rfl) ?_
      refine mo_get S V 14 (by decide) rfl q1629 rfl dX6_readsContact_143 ?_
      refine lv_iload hx hb dX6_readsContact_146 (lv_at hl 0 rfl) ?_
      refine lv_iload_n hx hb dX6_readsContact_148 rfl (lv_at hl 2 rfl) ?_
      obtain ⟨hg, hF⟩ := dx_gd_some hF
      refine mo_st S V 6 (by decide) (dx_inb_in hg) dX6_readsContact_149 (fun _ _ V => ?_)
      refine lv_aload_n hx hb dX6_readsContact_150 rfl (lv_at hl 1 rfl) ?_
      refine mo_get S V 14 (by decide) rfl q1629 rfl dX6_readsContact_151 ?_
      refine lv_iload hx hb dX6_readsContact_154 (lv_at hl 0 rfl) ?_
      refine lv_iconst (v := 1) hx hb dX6_readsContact_156 (by decide) ?_
      refine lv_iadd hx hb dX6_readsContact_157 ?_
      refine lv_iload_n hx hb dX6_readsContact_158 rfl (lv_at hl 3 rfl) ?_
      obtain ⟨hg, hF⟩ := dx_gd_some hF
      refine mo_st S V 6 (by decide) (dx_inb_in hg) dX6_readsContact_159 (fun _ _ V => ?_)
      refine lv_aload_n hx hb dX6_readsContact_160 rfl (lv_at hl 1 rfl) ?_
      refine mo_get S V 14 (by decide) rfl q1629 rfl dX6_readsContact_161 ?_
      refine lv_iload hx hb dX6_readsContact_164 (lv_at hl 0 rfl) ?_
      refine lv_iconst (v := 2) hx hb dX6_readsContact_166 (by decide) ?_
      refine lv_iadd hx hb dX6_readsContact_167 ?_
      refine lv_iload_n hx hb dX6_readsContact_168 rfl (lv_at hl 4 rfl) ?_
      obtain ⟨hg, hF⟩ := dx_gd_some hF
      refine mo_st S V 6 (by decide) (dx_inb_in hg) dX6_readsContact_169 (fun _ _ V => ?_)
      refine lv_aload_n hx hb dX6_readsContact_170 rfl (lv_at hl 1 rfl) ?_
      refine mo_get S V 14 (by decide) rfl q1629 rfl dX6_readsContact_171 ?_
      refine lv_iconst (v := 1) hx hb dX6_readsContact_174 (by decide) ?_
      refine lv_dup2_11 hx hb dX6_readsContact_175 rfl rfl ?_
      refine mo_ld S V 6 (by decide) (dx_inb_in rfl) dX6_readsContact_176 ?_
      refine lv_iconst (v := 1) hx hb dX6_readsContact_177 (by decide) ?_
      refine lv_iadd hx hb dX6_readsContact_178 ?_
      refine mo_st S V 6 (by decide) (dx_inb_in rfl) dX6_readsContact_179 (fun _ _ V => ?_)
      replace hF := Option.some.inj hF
      subst hF
      exact mo_rv S V hr hlocks dX6_readsContact_180
  have hJ77 : ∀ (σ : mo_S) (v1 : Int32) (t1 : Bool) (H : Heap) (locs : List Loc) (ls : Array Slot), mo_readsContact_J77 σ v1 t1 = some σ' → mo_V D di dz h ad A s.heap σ s H locs → lv_has ls 5 [(0, .ref h), (1, .int v1)] → W p l e ({ frames := 5, cells := 0, slots := 0, locals := 110 }) s m ([.ref h] : List Value).toArray below meth c H locs 0 0 (MQ below (mo_Qv D di dz h ad A σ') ([.ref h] : List Value).toArray s 0 0 A) (F0 m 77 ls [.int (dx_bI t1), .ref h]) := by
    intro σ v1 t1 H locs ls hF V hl
    unfold mo_readsContact_J77 at hF
    refine lv_iconst (v := 2) hx hb dX6_readsContact_77 (by decide) ?_
    obtain ⟨σ4, h4c, hF⟩ := dx_b1_some hF
    refine mo_cVv S V [.int (dx_bI t1), .int (2 : Int32)] (mo_m_must l D di dz h ad A  t1 (2 : Int32) σ _ h4c) (cwV 2 hts (lw_V q1787 q1789 qs47 q83 q1790) rfl rfl rfl mo_d_must ⟨Nat.le_of_ble_eq_true rfl, Nat.le_of_ble_eq_true rfl⟩) rfl rfl hl.1 (Nat.le_of_ble_eq_true rfl) dX6_readsContact_78 (fun _ _ V => ?_)
    refine lv_aload_n hx hb dX6_readsContact_81 rfl (lv_at hl 0 rfl) ?_
    refine lv_iconst (v := 0) hx hb dX6_readsContact_82 (by decide) ?_
    refine lv_aload_n hx hb dX6_readsContact_83 rfl (lv_at hl 0 rfl) ?_
    refine mo_get S V 14 (by decide) rfl q1629 rfl dX6_readsContact_84 ?_
    refine lv_iconst (v := 0) hx hb dX6_readsContact_87 (by decide) ?_
    refine mo_ld S V 6 (by decide) (dx_inb_in rfl) dX6_readsContact_88 ?_
    refine lv_iconst (v := 1) hx hb dX6_readsContact_89 (by decide) ?_
    refine lv_isub hx hb dX6_readsContact_90 ?_
    obtain ⟨r5, σ5, h5c, hF⟩ := dx_b2_some hF
    refine mo_cVi S V [.int (0 : Int32), .int ((σ4.2 6 (0 : Int32).toNatClampNeg) - (1 : Int32))] (mo_m_figure l D di dz h ad A  (0 : Int32) ((σ4.2 6 (0 : Int32).toNatClampNeg) - (1 : Int32)) σ4 _ _ h5c) (cwV 2 hts (lw_V q1772 q1774 qs44 q83 q1775) rfl rfl rfl mo_d_figure ⟨Nat.le_of_ble_eq_true rfl, Nat.le_of_ble_eq_true rfl⟩) rfl rfl hl.1 (Nat.le_of_ble_eq_true rfl) dX6_readsContact_91 (fun _ _ V => ?_)
    refine lv_istore_n (lv' := [(2, .int r5), (0, .ref h), (1, .int v1)]) hx hb dX6_readsContact_94 rfl hl (by decide) rfl (fun ls hl => ?_)
    refine lv_aload_n hx hb dX6_readsContact_95 rfl (lv_at hl 1 rfl) ?_
    refine lv_iconst (v := 0) hx hb dX6_readsContact_96 (by decide) ?_
    refine lv_bipush (v := 30) hx hb dX6_readsContact_97 (by decide) ?_
    obtain ⟨r6, σ6, h6c, hF⟩ := dx_b2_some hF
    refine mo_cVi S V [.int (0 : Int32), .int (30 : Int32)] (mo_m_behind l D di dz h ad A  (0 : Int32) (30 : Int32) σ5 _ _ h6c) (cwV 2 hts (lw_V q1776 q1778 qs45 q83 q1779) rfl rfl rfl mo_d_behind ⟨Nat.le_of_ble_eq_true rfl, Nat.le_of_ble_eq_true rfl⟩) rfl rfl hl.1 (Nat.le_of_ble_eq_true rfl) dX6_readsContact_99 (fun _ _ V => ?_)
    refine lv_istore_n (lv' := [(3, .int r6), (2, .int r5), (0, .ref h), (1, .int v1)]) hx hb dX6_readsContact_102 rfl hl (by decide) rfl (fun ls hl => ?_)
    refine lv_aload_n hx hb dX6_readsContact_103 rfl (lv_at hl 2 rfl) ?_
    refine lv_aload_n hx hb dX6_readsContact_104 rfl (lv_at hl 2 rfl) ?_
    refine mo_get S V 11 (by decide) rfl q1626 rfl dX6_readsContact_105 ?_
    refine lv_iconst (v := 4) hx hb dX6_readsContact_108 (by decide) ?_
    refine lv_icmp_ne (tgt := 116) hx hb dX6_readsContact_109 (by decide) (fun hc => ?_) (fun hc => ?_)
    · replace hF := (if_neg hc).symm.trans hF
      refine lv_iconst (v := 0) hx hb dX6_readsContact_116 (by decide) ?_
      exact hJ117 σ6 v1 r5 r6 false _ _ _ hF V (lv_sub hl [2, 3, 1, 0] rfl)
    · replace hF := (if_pos hc).symm.trans hF
      refine lv_iconst (v := 1) hx hb dX6_readsContact_112 (by decide) ?_
      refine lv_goto (tgt := 117) hx hb dX6_readsContact_113 (by decide) ?_
      exact hJ117 σ6 v1 r5 r6 true _ _ _ hF V (lv_sub hl [2, 3, 1, 0] rfl)
  have hJ50 : ∀ (σ : mo_S) (v1 : Int32) (t1 : Bool) (H : Heap) (locs : List Loc) (ls : Array Slot), mo_readsContact_J50 σ v1 t1 = some σ' → mo_V D di dz h ad A s.heap σ s H locs → lv_has ls 5 [(0, .ref h), (1, .int v1)] → W p l e ({ frames := 5, cells := 0, slots := 0, locals := 110 }) s m ([.ref h] : List Value).toArray below meth c H locs 0 0 (MQ below (mo_Qv D di dz h ad A σ') ([.ref h] : List Value).toArray s 0 0 A) (F0 m 50 ls [.int (dx_bI t1), .ref h]) := by
    intro σ v1 t1 H locs ls hF V hl
    unfold mo_readsContact_J50 at hF
    refine lv_iconst (v := 1) hx hb dX6_readsContact_50 (by decide) ?_
    obtain ⟨r3, σ3, h3c, hF⟩ := dx_b2_some hF
    refine mo_cVi S V [.int (dx_bI t1), .int (1 : Int32)] (mo_m_takes l D di dz h ad A  t1 (1 : Int32) σ _ _ h3c) (cwV 2 hts (lw_V q1764 q1766 qs42 q83 q1767) rfl rfl rfl mo_d_takes ⟨Nat.le_of_ble_eq_true rfl, Nat.le_of_ble_eq_true rfl⟩) rfl rfl hl.1 (Nat.le_of_ble_eq_true rfl) dX6_readsContact_51 (fun _ _ V => ?_)
    refine lv_pop hx hb dX6_readsContact_54 rfl ?_
    refine lv_aload_n hx hb dX6_readsContact_55 rfl (lv_at hl 0 rfl) ?_
    refine lv_aload_n hx hb dX6_readsContact_56 rfl (lv_at hl 0 rfl) ?_
    refine mo_get S V 11 (by decide) rfl q1626 rfl dX6_readsContact_57 ?_
    refine lv_iconst (v := 2) hx hb dX6_readsContact_60 (by decide) ?_
    refine lv_icmp_ne (tgt := 72) hx hb dX6_readsContact_61 (by decide) (fun hc => ?_) (fun hc => ?_)
    · replace hF := (if_neg hc).symm.trans hF
      refine lv_iconst (v := 1) hx hb dX6_readsContact_72 (by decide) ?_
      refine lv_goto (tgt := 77) hx hb dX6_readsContact_73 (by decide) ?_
      exact hJ77 σ3 v1 true _ _ _ hF V (lv_sub hl [0, 1] rfl)
    · replace hF := (if_pos hc).symm.trans hF
      refine lv_aload_n hx hb dX6_readsContact_64 rfl (lv_at hl 0 rfl) ?_
      refine mo_get S V 12 (by decide) rfl q1627 rfl dX6_readsContact_65 ?_
      refine lv_iload_n hx hb dX6_readsContact_68 rfl (lv_at hl 1 rfl) ?_
      refine lv_icmp_eq (tgt := 76) hx hb dX6_readsContact_69 (by decide) (fun hc => ?_) (fun hc => ?_)
      · replace hF := (if_pos hc).symm.trans hF
        refine lv_iconst (v := 0) hx hb dX6_readsContact_76 (by decide) ?_
        exact hJ77 σ3 v1 false _ _ _ hF V (lv_sub hl [0, 1] rfl)
      · replace hF := (if_neg hc).symm.trans hF
        refine lv_iconst (v := 1) hx hb dX6_readsContact_72 (by decide) ?_
        refine lv_goto (tgt := 77) hx hb dX6_readsContact_73 (by decide) ?_
        exact hJ77 σ3 v1 true _ _ _ hF V (lv_sub hl [0, 1] rfl)
  have hJ17 : ∀ (σ : mo_S) (t1 : Bool) (H : Heap) (locs : List Loc) (ls : Array Slot), mo_readsContact_J17 σ t1 = some σ' → mo_V D di dz h ad A s.heap σ s H locs → lv_has ls 5 [(0, .ref h)] → W p l e ({ frames := 5, cells := 0, slots := 0, locals := 110 }) s m ([.ref h] : List Value).toArray below meth c H locs 0 0 (MQ below (mo_Qv D di dz h ad A σ') ([.ref h] : List Value).toArray s 0 0 A) (F0 m 17 ls [.int (dx_bI t1), .ref h]) := by
    intro σ t1 H locs ls hF V hl
    unfold mo_readsContact_J17 at hF
    refine lv_iconst (v := 3) hx hb dX6_readsContact_17 (by decide) ?_
    obtain ⟨r1, σ1, h1c, hF⟩ := dx_b2_some hF
    refine mo_cVi S V [.int (dx_bI t1), .int (3 : Int32)] (mo_m_takes l D di dz h ad A  t1 (3 : Int32) σ _ _ h1c) (cwV 2 hts (lw_V q1764 q1766 qs42 q83 q1767) rfl rfl rfl mo_d_takes ⟨Nat.le_of_ble_eq_true rfl, Nat.le_of_ble_eq_true rfl⟩) rfl rfl hl.1 (Nat.le_of_ble_eq_true rfl) dX6_readsContact_18 (fun _ _ V => ?_)
    refine lv_pop hx hb dX6_readsContact_21 rfl ?_
    refine lv_aload_n hx hb dX6_readsContact_22 rfl (lv_at hl 0 rfl) ?_
    refine lv_iconst (v := 0) hx hb dX6_readsContact_23 (by decide) ?_
    refine lv_aload_n hx hb dX6_readsContact_24 rfl (lv_at hl 0 rfl) ?_
    refine mo_get S V 14 (by decide) rfl q1629 rfl dX6_readsContact_25 ?_
    refine lv_iconst (v := 0) hx hb dX6_readsContact_28 (by decide) ?_
    refine mo_ld S V 6 (by decide) (dx_inb_in rfl) dX6_readsContact_29 ?_
    refine lv_iconst (v := 1) hx hb dX6_readsContact_30 (by decide) ?_
    refine lv_isub hx hb dX6_readsContact_31 ?_
    obtain ⟨r2, σ2, h2c, hF⟩ := dx_b2_some hF
    refine mo_cVi S V [.int (0 : Int32), .int ((σ1.2 6 (0 : Int32).toNatClampNeg) - (1 : Int32))] (mo_m_figure l D di dz h ad A  (0 : Int32) ((σ1.2 6 (0 : Int32).toNatClampNeg) - (1 : Int32)) σ1 _ _ h2c) (cwV 2 hts (lw_V q1772 q1774 qs44 q83 q1775) rfl rfl rfl mo_d_figure ⟨Nat.le_of_ble_eq_true rfl, Nat.le_of_ble_eq_true rfl⟩) rfl rfl hl.1 (Nat.le_of_ble_eq_true rfl) dX6_readsContact_32 (fun _ _ V => ?_)
    refine lv_istore_n (lv' := [(1, .int r2), (0, .ref h)]) hx hb dX6_readsContact_35 rfl hl (by decide) rfl (fun ls hl => ?_)
    refine lv_aload_n hx hb dX6_readsContact_36 rfl (lv_at hl 1 rfl) ?_
    refine lv_aload_n hx hb dX6_readsContact_37 rfl (lv_at hl 1 rfl) ?_
    refine mo_get S V 11 (by decide) rfl q1626 rfl dX6_readsContact_38 ?_
    refine lv_iconst (v := 3) hx hb dX6_readsContact_41 (by decide) ?_
    refine lv_icmp_ne (tgt := 49) hx hb dX6_readsContact_42 (by decide) (fun hc => ?_) (fun hc => ?_)
    · replace hF := (if_neg hc).symm.trans hF
      refine lv_iconst (v := 0) hx hb dX6_readsContact_49 (by decide) ?_
      exact hJ50 σ2 r2 false _ _ _ hF V (lv_sub hl [1, 0] rfl)
    · replace hF := (if_pos hc).symm.trans hF
      refine lv_iconst (v := 1) hx hb dX6_readsContact_45 (by decide) ?_
      refine lv_goto (tgt := 50) hx hb dX6_readsContact_46 (by decide) ?_
      exact hJ50 σ2 r2 true _ _ _ hF V (lv_sub hl [1, 0] rfl)
  refine lv_aload_n hx hb dX6_readsContact_0 rfl (lv_at hl 0 rfl) ?_
  refine lv_aload_n hx hb dX6_readsContact_1 rfl (lv_at hl 0 rfl) ?_
  refine mo_get S V 14 (by decide) rfl q1629 rfl dX6_readsContact_2 ?_
  refine lv_iconst (v := 1) hx hb dX6_readsContact_5 (by decide) ?_
  refine mo_ld S V 6 (by decide) (dx_inb_in rfl) dX6_readsContact_6 ?_
  refine lv_bipush (v := 10) hx hb dX6_readsContact_7 (by decide) ?_
  refine lv_icmp_ge (tgt := 16) hx hb dX6_readsContact_9 (by decide) (fun hc => ?_) (fun hc => ?_)
  · replace hF := (if_pos hc).symm.trans hF
    refine lv_iconst (v := 0) hx hb dX6_readsContact_16 (by decide) ?_
    exact hJ17 σ0 false _ _ _ hF V (lv_sub hl [0] rfl)
  · replace hF := (if_neg hc).symm.trans hF
    refine lv_iconst (v := 1) hx hb dX6_readsContact_12 (by decide) ?_
    refine lv_goto (tgt := 17) hx hb dX6_readsContact_13 (by decide) ?_
    exact hJ17 σ0 true _ _ _ hF V (lv_sub hl [0] rfl)
theorem mo_d_readsIll : yX6_readsIll.cls = RX6 ∧ yX6_readsIll.cls ≠ "java/lang/invoke/MethodHandle" ∧ yX6_readsIll.cls ≠ "java/lang/invoke/VarHandle" ∧ (parseMethodDescriptor yX6_readsIll.desc).map (fun d => d.parameters.length) = some 0 := by decide +kernel
set_option maxHeartbeats 4000000 in
set_option maxRecDepth 100000 in
theorem mo_m_readsIll (l : Launch) (D : va_G) (di dz : ClassId) (h : Nat) (ad : Nat → Nat) (A : Nat → Prop)   (σ0 : mo_S) (σ' : mo_S) (hF : mo_readsIll σ0 = some σ') : mo_Cv l yX6_readsIll cX6_readsIll 3 ({ frames := 5, cells := 0, slots := 0, locals := 110 }) D di dz h ad A [.ref h] σ0 σ' := by
  refine dx_in RX6 rfl (by decide) (Nat.le_of_ble_eq_true rfl) ?_
  intro p e s m below meth c ls S hr hlocks hv hl
  have hx := S.1
  have hb := S.2.1
  have hown := S.2.2.2.1
  have hts := S.2.2.2.2
  obtain ⟨hK, hP, hD⟩ := hv
  have V : mo_V D di dz h ad A s.heap σ0 s s.heap [] := ⟨hK, hP, hD, va_S.rf⟩
  replace hl : lv_has ls 3 [(0, .ref h)] := hl
  unfold mo_readsIll at hF
  have hJ92 : ∀ (σ : mo_S) (v1 : Int32) (v2 : Int32) (t1 : Bool) (H : Heap) (locs : List Loc) (ls : Array Slot), mo_readsIll_J92 σ v1 v2 t1 = some σ' → mo_V D di dz h ad A s.heap σ s H locs → lv_has ls 3 [(0, .ref h), (1, .int v1), (2, .int v2)] → W p l e ({ frames := 5, cells := 0, slots := 0, locals := 110 }) s m ([.ref h] : List Value).toArray below meth c H locs 0 0 (MQ below (mo_Qv D di dz h ad A σ') ([.ref h] : List Value).toArray s 0 0 A) (F0 m 92 ls [.int (dx_bI t1), .ref h]) := by
    intro σ v1 v2 t1 H locs ls hF V hl
    unfold mo_readsIll_J92 at hF
    refine lv_iconst (v := 1) hx hb dX6_readsIll_92 (by decide) ?_
    obtain ⟨r5, σ5, h5c, hF⟩ := dx_b2_some hF
    refine mo_cVi S V [.int (dx_bI t1), .int (1 : Int32)] (mo_m_takes l D di dz h ad A  t1 (1 : Int32) σ _ _ h5c) (cwV 2 hts (lw_V q1764 q1766 qs42 q83 q1767) rfl rfl rfl mo_d_takes ⟨Nat.le_of_ble_eq_true rfl, Nat.le_of_ble_eq_true rfl⟩) rfl rfl hl.1 (Nat.le_of_ble_eq_true rfl) dX6_readsIll_93 (fun _ _ V => ?_)
    refine lv_pop hx hb dX6_readsIll_96 rfl ?_
    refine lv_aload_n hx hb dX6_readsIll_97 rfl (lv_at hl 0 rfl) ?_
    obtain ⟨r6, h6c, hF⟩ := dx_b1_some hF
    refine mo_cVi S V [] (mo_m_isWell l D di dz h ad A   σ5 _ h6c) (cwV 0 hts (lw_V q1768 q1770 qs43 q83 q1771) rfl rfl rfl mo_d_isWell ⟨Nat.le_of_ble_eq_true rfl, Nat.le_of_ble_eq_true rfl⟩) rfl rfl hl.1 (Nat.le_of_ble_eq_true rfl) dX6_readsIll_98 (fun _ _ V => ?_)
    refine lv_if_eq (tgt := 117) hx hb dX6_readsIll_101 (by decide) (fun hc => ?_) (fun hc => ?_)
    · replace hF := dx_ib_f (dx_bI_0 hc) hF
      replace hF := Option.some.inj hF
      subst hF
      exact mo_rv S V hr hlocks dX6_readsIll_117
    · replace hF := dx_ib_t (dx_bI_n hc) hF
      refine lv_aload_n hx hb dX6_readsIll_104 rfl (lv_at hl 0 rfl) ?_
      refine mo_get S V 14 (by decide) rfl q1629 rfl dX6_readsIll_105 ?_
      refine lv_iconst (v := 4) hx hb dX6_readsIll_108 (by decide) ?_
      refine lv_iconst (v := 2) hx hb dX6_readsIll_109 (by decide) ?_
      refine lv_iload_n hx hb dX6_readsIll_110 rfl (lv_at hl 1 rfl) ?_
      refine lv_imul hx hb dX6_readsIll_111 ?_
      refine lv_iadd hx hb dX6_readsIll_112 ?_
      refine lv_iconst (v := 1) hx hb dX6_readsIll_113 (by decide) ?_
      refine lv_iadd hx hb dX6_readsIll_114 ?_
      refine lv_iload_n hx hb dX6_readsIll_115 rfl (lv_at hl 2 rfl) ?_
      obtain ⟨hg, hF⟩ := dx_gd_some hF
      refine mo_st S V 6 (by decide) (dx_inb_in hg) dX6_readsIll_116 (fun _ _ V => ?_)
      replace hF := Option.some.inj hF
      subst hF
      exact mo_rv S V hr hlocks dX6_readsIll_117
  have hJ52 : ∀ (σ : mo_S) (t1 : Bool) (H : Heap) (locs : List Loc) (ls : Array Slot), mo_readsIll_J52 σ t1 = some σ' → mo_V D di dz h ad A s.heap σ s H locs → lv_has ls 3 [(0, .ref h)] → W p l e ({ frames := 5, cells := 0, slots := 0, locals := 110 }) s m ([.ref h] : List Value).toArray below meth c H locs 0 0 (MQ below (mo_Qv D di dz h ad A σ') ([.ref h] : List Value).toArray s 0 0 A) (F0 m 52 ls [.int (dx_bI t1), .ref h]) := by
    intro σ t1 H locs ls hF V hl
    unfold mo_readsIll_J52 at hF
    refine lv_iconst (v := 2) hx hb dX6_readsIll_52 (by decide) ?_
    obtain ⟨σ2, h2c, hF⟩ := dx_b1_some hF
    refine mo_cVv S V [.int (dx_bI t1), .int (2 : Int32)] (mo_m_must l D di dz h ad A  t1 (2 : Int32) σ _ h2c) (cwV 2 hts (lw_V q1787 q1789 qs47 q83 q1790) rfl rfl rfl mo_d_must ⟨Nat.le_of_ble_eq_true rfl, Nat.le_of_ble_eq_true rfl⟩) rfl rfl hl.1 (Nat.le_of_ble_eq_true rfl) dX6_readsIll_53 (fun _ _ V => ?_)
    refine lv_aload_n hx hb dX6_readsIll_56 rfl (lv_at hl 0 rfl) ?_
    refine lv_iconst (v := 0) hx hb dX6_readsIll_57 (by decide) ?_
    refine lv_aload_n hx hb dX6_readsIll_58 rfl (lv_at hl 0 rfl) ?_
    refine mo_get S V 14 (by decide) rfl q1629 rfl dX6_readsIll_59 ?_
    refine lv_iconst (v := 0) hx hb dX6_readsIll_62 (by decide) ?_
    refine mo_ld S V 6 (by decide) (dx_inb_in rfl) dX6_readsIll_63 ?_
    refine lv_iconst (v := 1) hx hb dX6_readsIll_64 (by decide) ?_
    refine lv_isub hx hb dX6_readsIll_65 ?_
    obtain ⟨r3, σ3, h3c, hF⟩ := dx_b2_some hF
    refine mo_cVi S V [.int (0 : Int32), .int ((σ2.2 6 (0 : Int32).toNatClampNeg) - (1 : Int32))] (mo_m_figure l D di dz h ad A  (0 : Int32) ((σ2.2 6 (0 : Int32).toNatClampNeg) - (1 : Int32)) σ2 _ _ h3c) (cwV 2 hts (lw_V q1772 q1774 qs44 q83 q1775) rfl rfl rfl mo_d_figure ⟨Nat.le_of_ble_eq_true rfl, Nat.le_of_ble_eq_true rfl⟩) rfl rfl hl.1 (Nat.le_of_ble_eq_true rfl) dX6_readsIll_66 (fun _ _ V => ?_)
    refine lv_istore_n (lv' := [(1, .int r3), (0, .ref h)]) hx hb dX6_readsIll_69 rfl hl (by decide) rfl (fun ls hl => ?_)
    refine lv_aload_n hx hb dX6_readsIll_70 rfl (lv_at hl 1 rfl) ?_
    refine lv_iconst (v := 0) hx hb dX6_readsIll_71 (by decide) ?_
    refine lv_bipush (v := 30) hx hb dX6_readsIll_72 (by decide) ?_
    obtain ⟨r4, σ4, h4c, hF⟩ := dx_b2_some hF
    refine mo_cVi S V [.int (0 : Int32), .int (30 : Int32)] (mo_m_behind l D di dz h ad A  (0 : Int32) (30 : Int32) σ3 _ _ h4c) (cwV 2 hts (lw_V q1776 q1778 qs45 q83 q1779) rfl rfl rfl mo_d_behind ⟨Nat.le_of_ble_eq_true rfl, Nat.le_of_ble_eq_true rfl⟩) rfl rfl hl.1 (Nat.le_of_ble_eq_true rfl) dX6_readsIll_74 (fun _ _ V => ?_)
    refine lv_istore_n (lv' := [(2, .int r4), (1, .int r3), (0, .ref h)]) hx hb dX6_readsIll_77 rfl hl (by decide) rfl (fun ls hl => ?_)
    refine lv_aload_n hx hb dX6_readsIll_78 rfl (lv_at hl 2 rfl) ?_
    refine lv_aload_n hx hb dX6_readsIll_79 rfl (lv_at hl 2 rfl) ?_
    refine mo_get S V 11 (by decide) rfl q1626 rfl dX6_readsIll_80 ?_
    refine lv_iconst (v := 4) hx hb dX6_readsIll_83 (by decide) ?_
    refine lv_icmp_ne (tgt := 91) hx hb dX6_readsIll_84 (by decide) (fun hc => ?_) (fun hc => ?_)
    · replace hF := (if_neg hc).symm.trans hF
      refine lv_iconst (v := 0) hx hb dX6_readsIll_91 (by decide) ?_
      exact hJ92 σ4 r3 r4 false _ _ _ hF V (lv_sub hl [2, 1, 0] rfl)
    · replace hF := (if_pos hc).symm.trans hF
      refine lv_iconst (v := 1) hx hb dX6_readsIll_87 (by decide) ?_
      refine lv_goto (tgt := 92) hx hb dX6_readsIll_88 (by decide) ?_
      exact hJ92 σ4 r3 r4 true _ _ _ hF V (lv_sub hl [2, 1, 0] rfl)
  refine lv_aload_n hx hb dX6_readsIll_0 rfl (lv_at hl 0 rfl) ?_
  refine lv_iconst (v := 1) hx hb dX6_readsIll_1 (by decide) ?_
  refine lv_iconst (v := 1) hx hb dX6_readsIll_2 (by decide) ?_
  obtain ⟨r1, σ1, h1c, hF⟩ := dx_b2_some hF
  refine mo_cVi S V [.int (1 : Int32), .int (1 : Int32)] (mo_m_takes l D di dz h ad A  true (1 : Int32) σ0 _ _ h1c) (cwV 2 hts (lw_V q1764 q1766 qs42 q83 q1767) rfl rfl rfl mo_d_takes ⟨Nat.le_of_ble_eq_true rfl, Nat.le_of_ble_eq_true rfl⟩) rfl rfl hl.1 (Nat.le_of_ble_eq_true rfl) dX6_readsIll_3 (fun _ _ V => ?_)
  refine lv_pop hx hb dX6_readsIll_6 rfl ?_
  refine lv_aload_n hx hb dX6_readsIll_7 rfl (lv_at hl 0 rfl) ?_
  refine lv_aload_n hx hb dX6_readsIll_8 rfl (lv_at hl 0 rfl) ?_
  refine mo_get S V 11 (by decide) rfl q1626 rfl dX6_readsIll_9 ?_
  refine lv_iconst (v := 2) hx hb dX6_readsIll_12 (by decide) ?_
  refine lv_icmp_ne (tgt := 47) hx hb dX6_readsIll_13 (by decide) (fun hc => ?_) (fun hc => ?_)
  · replace hF := (if_neg hc).symm.trans hF
    refine lv_iconst (v := 1) hx hb dX6_readsIll_47 (by decide) ?_
    refine lv_goto (tgt := 52) hx hb dX6_readsIll_48 (by decide) ?_
    exact hJ52 σ1 true _ _ _ hF V (lv_sub hl [0] rfl)
  · replace hF := (if_pos hc).symm.trans hF
    refine lv_aload_n hx hb dX6_readsIll_16 rfl (lv_at hl 0 rfl) ?_
    refine mo_get S V 12 (by decide) rfl q1627 rfl dX6_readsIll_17 ?_
    refine lv_aload_n hx hb dX6_readsIll_20 rfl (lv_at hl 0 rfl) ?_
    refine mo_get S V 14 (by decide) rfl q1629 rfl dX6_readsIll_21 ?_
    refine lv_iconst (v := 0) hx hb dX6_readsIll_24 (by decide) ?_
    refine mo_ld S V 6 (by decide) (dx_inb_in rfl) dX6_readsIll_25 ?_
    refine lv_icmp_ge (tgt := 47) hx hb dX6_readsIll_26 (by decide) (fun hc => ?_) (fun hc => ?_)
    · replace hF := (if_pos hc).symm.trans hF
      refine lv_iconst (v := 1) hx hb dX6_readsIll_47 (by decide) ?_
      refine lv_goto (tgt := 52) hx hb dX6_readsIll_48 (by decide) ?_
      exact hJ52 σ1 true _ _ _ hF V (lv_sub hl [0] rfl)
    · replace hF := (if_neg hc).symm.trans hF
      refine lv_aload_n hx hb dX6_readsIll_29 rfl (lv_at hl 0 rfl) ?_
      refine mo_get S V 14 (by decide) rfl q1629 rfl dX6_readsIll_30 ?_
      refine lv_iconst (v := 4) hx hb dX6_readsIll_33 (by decide) ?_
      refine lv_iconst (v := 2) hx hb dX6_readsIll_34 (by decide) ?_
      refine lv_aload_n hx hb dX6_readsIll_35 rfl (lv_at hl 0 rfl) ?_
      refine mo_get S V 12 (by decide) rfl q1627 rfl dX6_readsIll_36 ?_
      refine lv_imul hx hb dX6_readsIll_39 ?_
      refine lv_iadd hx hb dX6_readsIll_40 ?_
      refine lv_iconst (v := 1) hx hb dX6_readsIll_41 (by decide) ?_
      refine lv_iadd hx hb dX6_readsIll_42 ?_
      obtain ⟨hg, hF⟩ := dx_gd_some hF
      refine mo_ld S V 6 (by decide) (dx_inb_in hg) dX6_readsIll_43 ?_
      refine lv_if_ge (tgt := 51) hx hb dX6_readsIll_44 (by decide) (fun hc => ?_) (fun hc => ?_)
      · replace hF := (if_pos hc).symm.trans hF
        refine lv_iconst (v := 0) hx hb dX6_readsIll_51 (by decide) ?_
        exact hJ52 σ1 false _ _ _ hF V (lv_sub hl [0] rfl)
      · replace hF := (if_neg hc).symm.trans hF
        refine lv_iconst (v := 1) hx hb dX6_readsIll_47 (by decide) ?_
        refine lv_goto (tgt := 52) hx hb dX6_readsIll_48 (by decide) ?_
        exact hJ52 σ1 true _ _ _ hF V (lv_sub hl [0] rfl)
theorem mo_d_copies : yX6_copies.cls ≠ "java/lang/invoke/MethodHandle" ∧ yX6_copies.cls ≠ "java/lang/invoke/VarHandle" ∧ (parseMethodDescriptor yX6_copies.desc).map (fun d => d.parameters.length) = some 4 := by decide +kernel
set_option maxHeartbeats 4000000 in
set_option maxRecDepth 100000 in
theorem mo_m_copies (l : Launch) (D : va_G) (di dz : ClassId) (h : Nat) (ad : Nat → Nat) (A : Nat → Prop) (k0 : Nat) (hk0 : k0 < 17 ∧ ¬ k0 = 10) (k2 : Nat) (hk2 : k2 < 17 ∧ ¬ k2 = 10) (p1 : Int32) (p3 : Int32) (σ0 : mo_S) (σ' : mo_S) (hF : mo_copies k0 k2 σ0 p1 p3 = some σ') : mo_Cv l yX6_copies cX6_copies 5 ({ frames := 0, cells := 0, slots := 0, locals := 0 }) D di dz h ad A [.ref (ad k0), .int p1, .ref (ad k2), .int p3] σ0 σ' := by
  refine dx_in RX6 rfl (by decide) (Nat.le_of_ble_eq_true rfl) ?_
  intro p e s m below meth c ls S hr hlocks hv hl
  have hx := S.1
  have hb := S.2.1
  have hown := S.2.2.2.1
  have hts := S.2.2.2.2
  obtain ⟨hK, hP, hD⟩ := hv
  have V : mo_V D di dz h ad A s.heap σ0 s s.heap [] := ⟨hK, hP, hD, va_S.rf⟩
  replace hl : lv_has ls 5 [(0, .ref (ad k0)), (1, .int p1), (2, .ref (ad k2)), (3, .int p3)] := hl
  unfold mo_copies at hF
  have hL3 : ∀ (v1 : Int32) (v3 : Int32) (n : Nat) (v4 : Int32) (σ : mo_S) (H : Heap) (locs : List Loc) (ls : Array Slot), dx_lp (fun x => mo_copies_L3 k0 k2 x.2 v1 v3 x.1) n (v4, σ) = some σ' → mo_V D di dz h ad A s.heap σ s H locs → lv_has ls 5 [(0, .ref (ad k0)), (1, .int v1), (2, .ref (ad k2)), (3, .int v3), (4, .int v4)] → W p l e ({ frames := 0, cells := 0, slots := 0, locals := 0 }) s m ([.ref (ad k0), .int p1, .ref (ad k2), .int p3] : List Value).toArray below meth c H locs 0 0 (MQ below (mo_Qv D di dz h ad A σ') ([.ref (ad k0), .int p1, .ref (ad k2), .int p3] : List Value).toArray s 0 0 A) (F0 m 3 ls []) := by
    intro v1 v3 n
    induction n with
    | zero =>
      intro v4 σ H locs ls hF V hl
      exact (dx_lp_0 hF).elim
    | succ n ih3 =>
      intro v4 σ H locs ls hF V hl
      obtain ⟨y3, hF, hz3⟩ := dx_lp_s hF
      replace hF : mo_copies_L3 k0 k2 σ v1 v3 v4 = some y3 := hF
      unfold mo_copies_L3 at hF
      refine lv_iload hx hb dX6_copies_3 (lv_at hl 4 rfl) ?_
      refine lv_bipush (v := 52) hx hb dX6_copies_5 (by decide) ?_
      refine lv_icmp_ge (tgt := 28) hx hb dX6_copies_7 (by decide) (fun hc => ?_) (fun hc => ?_)
      · replace hF := (if_pos hc).symm.trans hF
        replace hF := dx_ex_k hF hz3
        replace hF := Option.some.inj hF
        subst hF
        exact mo_rv S V hr hlocks dX6_copies_28
      · replace hF := (if_neg hc).symm.trans hF
        refine lv_aload_n hx hb dX6_copies_10 rfl (lv_at hl 2 rfl) ?_
        refine lv_iload_n hx hb dX6_copies_11 rfl (lv_at hl 3 rfl) ?_
        refine lv_iload hx hb dX6_copies_12 (lv_at hl 4 rfl) ?_
        refine lv_iadd hx hb dX6_copies_14 ?_
        refine lv_aload_n hx hb dX6_copies_15 rfl (lv_at hl 0 rfl) ?_
        refine lv_iload_n hx hb dX6_copies_16 rfl (lv_at hl 1 rfl) ?_
        refine lv_iload hx hb dX6_copies_17 (lv_at hl 4 rfl) ?_
        refine lv_iadd hx hb dX6_copies_19 ?_
        obtain ⟨hg, hF⟩ := dx_gd_some hF
        refine mo_ld S V k0 hk0 (dx_inb_in hg) dX6_copies_20 ?_
        obtain ⟨hg, hF⟩ := dx_gd_some hF
        refine mo_st S V k2 hk2 (dx_inb_in hg) dX6_copies_21 (fun _ _ V => ?_)
        refine lv_iinc (v := (v4 + (1 : Int32))) (lv' := [(4, .int (v4 + (1 : Int32))), (0, .ref (ad k0)), (1, .int v1), (2, .ref (ad k2)), (3, .int v3)]) hx hb dX6_copies_22 hl (k := 4) rfl rfl (by decide) rfl (fun ls hl => ?_)
        refine lv_goto (tgt := 3) hx hb dX6_copies_25 (by decide) ?_
        replace hF := Option.some.inj hF
        subst hF
        exact ih3 (v4 + (1 : Int32)) (mo_A σ k2 ((v3 + v4).toNatClampNeg) (σ.2 k0 (v1 + v4).toNatClampNeg)) _ _ _ (dx_lk_l hz3) V (lv_sub hl [1, 2, 3, 4, 0] rfl)
  refine lv_iconst (v := 0) hx hb dX6_copies_0 (by decide) ?_
  refine lv_istore (lv' := [(4, .int (0 : Int32)), (0, .ref (ad k0)), (1, .int p1), (2, .ref (ad k2)), (3, .int p3)]) hx hb dX6_copies_1 hl (by decide) rfl (fun ls hl => ?_)
  exact hL3 p1 p3 dx_fu (0 : Int32) σ0 _ _ _ hF V (lv_sub hl [1, 2, 3, 4, 0] rfl)
theorem mo_d_net : yX6_net.cls = RX6 ∧ yX6_net.cls ≠ "java/lang/invoke/MethodHandle" ∧ yX6_net.cls ≠ "java/lang/invoke/VarHandle" ∧ (parseMethodDescriptor yX6_net.desc).map (fun d => d.parameters.length) = some 0 := by decide +kernel
set_option maxHeartbeats 4000000 in
set_option maxRecDepth 100000 in
theorem mo_m_net (l : Launch) (D : va_G) (di dz : ClassId) (h : Nat) (ad : Nat → Nat) (A : Nat → Prop)   (σ0 : mo_S) (r : Int32) (σ' : mo_S) (hF : mo_net σ0 = some (r, σ')) : mo_Ci l yX6_net cX6_net 2 .int ({ frames := 6, cells := 0, slots := 0, locals := 134 }) D di dz h ad A [.ref h] σ0 r σ' := by
  refine dx_in RX6 rfl (by decide) (Nat.le_of_ble_eq_true rfl) ?_
  intro p e s m below meth c ls S hr hlocks hv hl
  have hx := S.1
  have hb := S.2.1
  have hown := S.2.2.2.1
  have hts := S.2.2.2.2
  obtain ⟨hK, hP, hD⟩ := hv
  have V : mo_V D di dz h ad A s.heap σ0 s s.heap [] := ⟨hK, hP, hD, va_S.rf⟩
  replace hl : lv_has ls 2 [(0, .ref h)] := hl
  unfold mo_net at hF
  have hJ209 : ∀ (σ : mo_S) (t1 : Bool) (H : Heap) (locs : List Loc) (ls : Array Slot), mo_net_J209 σ t1 = some (r, σ') → mo_V D di dz h ad A s.heap σ s H locs → lv_has ls 2 [(0, .ref h)] → W p l e ({ frames := 6, cells := 0, slots := 0, locals := 134 }) s m ([.ref h] : List Value).toArray below meth c H locs 0 0 (MQ below (mo_Qi D di dz h ad A r σ') ([.ref h] : List Value).toArray s 0 0 A) (F0 m 209 ls [.int (dx_bI t1), .ref h]) := by
    intro σ t1 H locs ls hF V hl
    unfold mo_net_J209 at hF
    refine lv_iconst (v := 1) hx hb dX6_net_209 (by decide) ?_
    obtain ⟨σ10, h10c, hF⟩ := dx_b1_some hF
    refine mo_cVv S V [.int (dx_bI t1), .int (1 : Int32)] (mo_m_must l D di dz h ad A  t1 (1 : Int32) σ _ h10c) (cwV 2 hts (lw_V q1787 q1789 qs47 q83 q1790) rfl rfl rfl mo_d_must ⟨Nat.le_of_ble_eq_true rfl, Nat.le_of_ble_eq_true rfl⟩) rfl rfl hl.1 (Nat.le_of_ble_eq_true rfl) dX6_net_210 (fun _ _ V => ?_)
    refine lv_aload_n hx hb dX6_net_213 rfl (lv_at hl 0 rfl) ?_
    refine lv_iconst (v := 0) hx hb dX6_net_214 (by decide) ?_
    refine mo_put S V 6 1 (by decide) rfl q1621 rfl rfl rfl dX6_net_215 (fun _ _ V => ?_)
    refine lv_aload_n hx hb dX6_net_218 rfl (lv_at hl 0 rfl) ?_
    obtain ⟨r11, h11c, hF⟩ := dx_b1_some hF
    refine mo_cVi S V [] (mo_m_isWell l D di dz h ad A   (mo_I σ10 1 (0 : Int32)) _ h11c) (cwV 0 hts (lw_V q1768 q1770 qs43 q83 q1771) rfl rfl rfl mo_d_isWell ⟨Nat.le_of_ble_eq_true rfl, Nat.le_of_ble_eq_true rfl⟩) rfl rfl hl.1 (Nat.le_of_ble_eq_true rfl) dX6_net_219 (fun _ _ V => ?_)
    refine lv_if_ne (tgt := 233) hx hb dX6_net_222 (by decide) (fun hc => ?_) (fun hc => ?_)
    · replace hF := dx_ib_t (dx_bI_n hc) hF
      refine lv_aload_n hx hb dX6_net_233 rfl (lv_at hl 0 rfl) ?_
      refine mo_get S V 14 (by decide) rfl q1629 rfl dX6_net_234 ?_
      refine lv_iconst (v := 0) hx hb dX6_net_237 (by decide) ?_
      refine lv_aload_n hx hb dX6_net_238 rfl (lv_at hl 0 rfl) ?_
      refine mo_get S V 13 (by decide) rfl q1628 rfl dX6_net_239 ?_
      refine lv_iconst (v := 0) hx hb dX6_net_242 (by decide) ?_
      obtain ⟨σ12, h12c, hF⟩ := dx_b1_some hF
      refine mo_cSv S V [.ref (ad 6), .int (0 : Int32), .ref (ad 5), .int (0 : Int32)] (mo_m_copies l D di dz h ad A 6 (by decide) 5 (by decide) (0 : Int32) (0 : Int32) (mo_I σ10 1 (0 : Int32)) _ h12c) (va_cwS 4 hts (lw_S q1804 q1805 q83 q1806) rfl rfl rfl mo_d_copies ⟨Nat.le_of_ble_eq_true rfl, Nat.le_of_ble_eq_true rfl⟩) rfl rfl hl.1 (Nat.le_of_ble_eq_true rfl) dX6_net_243 (fun _ _ V => ?_)
      refine lv_aload_n hx hb dX6_net_246 rfl (lv_at hl 0 rfl) ?_
      refine lv_iconst (v := 0) hx hb dX6_net_247 (by decide) ?_
      refine mo_put S V 17 8 (by decide) rfl q1632 rfl rfl rfl dX6_net_248 (fun _ _ V => ?_)
      refine lv_aload_n hx hb dX6_net_251 rfl (lv_at hl 0 rfl) ?_
      refine mo_get S V 13 (by decide) rfl q1628 rfl dX6_net_252 ?_
      refine lv_iconst (v := 0) hx hb dX6_net_255 (by decide) ?_
      refine mo_ld S V 5 (by decide) (dx_inb_in rfl) dX6_net_256 ?_
      obtain ⟨hF1, hF2⟩ := dx_r2 hF
      subst hF1
      subst hF2
      exact mo_ri S V hr hlocks rfl dX6_net_257
    · replace hF := dx_ib_f (dx_bI_0 hc) hF
      refine lv_ldc hx hb hown (hts _ q1803) dX6_net_225 ?_
      refine lv_aload_n hx hb dX6_net_227 rfl (lv_at hl 0 rfl) ?_
      refine mo_get S V 8 (by decide) rfl q1623 rfl dX6_net_228 ?_
      refine lv_isub hx hb dX6_net_231 ?_
      obtain ⟨hF1, hF2⟩ := dx_r2 hF
      subst hF1
      subst hF2
      exact mo_ri S V hr hlocks rfl dX6_net_232
  have hL180 : ∀  (n : Nat) (σ : mo_S) (H : Heap) (locs : List Loc) (ls : Array Slot), dx_lp (fun x => mo_net_L180 x) n σ = some (r, σ') → mo_V D di dz h ad A s.heap σ s H locs → lv_has ls 2 [(0, .ref h)] → W p l e ({ frames := 6, cells := 0, slots := 0, locals := 134 }) s m ([.ref h] : List Value).toArray below meth c H locs 0 0 (MQ below (mo_Qi D di dz h ad A r σ') ([.ref h] : List Value).toArray s 0 0 A) (F0 m 180 ls []) := by
    intro n
    induction n with
    | zero =>
      intro σ H locs ls hF V hl
      exact (dx_lp_0 hF).elim
    | succ n ih180 =>
      intro σ H locs ls hF V hl
      obtain ⟨y180, hF, hz180⟩ := dx_lp_s hF
      replace hF : mo_net_L180 σ = some y180 := hF
      unfold mo_net_L180 at hF
      refine lv_aload_n hx hb dX6_net_180 rfl (lv_at hl 0 rfl) ?_
      refine lv_bipush (v := 105) hx hb dX6_net_181 (by decide) ?_
      obtain ⟨r9, h9c, hF⟩ := dx_b1_some hF
      refine mo_cVi S V [.int (105 : Int32)] (mo_m_isLetter l D di dz h ad A  (105 : Int32) σ _ h9c) (cwV 1 hts (lw_V q1791 q1793 qs48 q83 q1794) rfl rfl rfl mo_d_isLetter ⟨Nat.le_of_ble_eq_true rfl, Nat.le_of_ble_eq_true rfl⟩) rfl rfl hl.1 (Nat.le_of_ble_eq_true rfl) dX6_net_183 (fun _ _ V => ?_)
      refine lv_if_eq (tgt := 196) hx hb dX6_net_186 (by decide) (fun hc => ?_) (fun hc => ?_)
      · replace hF := dx_ib_f (dx_bI_0 hc) hF
        replace hF := dx_ex_k hF hz180
        refine lv_aload_n hx hb dX6_net_196 rfl (lv_at hl 0 rfl) ?_
        refine lv_aload_n hx hb dX6_net_197 rfl (lv_at hl 0 rfl) ?_
        refine mo_get S V 11 (by decide) rfl q1626 rfl dX6_net_198 ?_
        refine lv_if_ne (tgt := 208) hx hb dX6_net_201 (by decide) (fun hc => ?_) (fun hc => ?_)
        · replace hF := (if_neg hc).symm.trans hF
          refine lv_iconst (v := 0) hx hb dX6_net_208 (by decide) ?_
          exact hJ209 σ false _ _ _ hF V (lv_sub hl [0] rfl)
        · replace hF := (if_pos hc).symm.trans hF
          refine lv_iconst (v := 1) hx hb dX6_net_204 (by decide) ?_
          refine lv_goto (tgt := 209) hx hb dX6_net_205 (by decide) ?_
          exact hJ209 σ true _ _ _ hF V (lv_sub hl [0] rfl)
      · replace hF := dx_ib_t (dx_bI_n hc) hF
        refine lv_aload_n hx hb dX6_net_189 rfl (lv_at hl 0 rfl) ?_
        obtain ⟨σ13, h13c, hF⟩ := dx_b1_some hF
        refine mo_cVv S V [] (mo_m_readsIll l D di dz h ad A   σ _ h13c) (cwV 0 hts (lw_V q1799 q1801 qs50 q83 q1802) rfl rfl rfl mo_d_readsIll ⟨Nat.le_of_ble_eq_true rfl, Nat.le_of_ble_eq_true rfl⟩) rfl rfl hl.1 (Nat.le_of_ble_eq_true rfl) dX6_net_190 (fun _ _ V => ?_)
        refine lv_goto (tgt := 180) hx hb dX6_net_193 (by decide) ?_
        replace hF := Option.some.inj hF
        subst hF
        exact ih180 σ13 _ _ _ (dx_lk_l hz180) V (lv_sub hl [0] rfl)
  have hL164 : ∀  (n : Nat) (σ : mo_S) (H : Heap) (locs : List Loc) (ls : Array Slot), dx_lp (fun x => mo_net_L164 x) n σ = some (r, σ') → mo_V D di dz h ad A s.heap σ s H locs → lv_has ls 2 [(0, .ref h)] → W p l e ({ frames := 6, cells := 0, slots := 0, locals := 134 }) s m ([.ref h] : List Value).toArray below meth c H locs 0 0 (MQ below (mo_Qi D di dz h ad A r σ') ([.ref h] : List Value).toArray s 0 0 A) (F0 m 164 ls []) := by
    intro n
    induction n with
    | zero =>
      intro σ H locs ls hF V hl
      exact (dx_lp_0 hF).elim
    | succ n ih164 =>
      intro σ H locs ls hF V hl
      obtain ⟨y164, hF, hz164⟩ := dx_lp_s hF
      replace hF : mo_net_L164 σ = some y164 := hF
      unfold mo_net_L164 at hF
      refine lv_aload_n hx hb dX6_net_164 rfl (lv_at hl 0 rfl) ?_
      refine lv_bipush (v := 99) hx hb dX6_net_165 (by decide) ?_
      obtain ⟨r8, h8c, hF⟩ := dx_b1_some hF
      refine mo_cVi S V [.int (99 : Int32)] (mo_m_isLetter l D di dz h ad A  (99 : Int32) σ _ h8c) (cwV 1 hts (lw_V q1791 q1793 qs48 q83 q1794) rfl rfl rfl mo_d_isLetter ⟨Nat.le_of_ble_eq_true rfl, Nat.le_of_ble_eq_true rfl⟩) rfl rfl hl.1 (Nat.le_of_ble_eq_true rfl) dX6_net_167 (fun _ _ V => ?_)
      refine lv_if_eq (tgt := 180) hx hb dX6_net_170 (by decide) (fun hc => ?_) (fun hc => ?_)
      · replace hF := dx_ib_f (dx_bI_0 hc) hF
        replace hF := dx_ex_k hF hz164
        exact hL180  dx_fu σ _ _ _ hF V (lv_sub hl [0] rfl)
      · replace hF := dx_ib_t (dx_bI_n hc) hF
        refine lv_aload_n hx hb dX6_net_173 rfl (lv_at hl 0 rfl) ?_
        obtain ⟨σ14, h14c, hF⟩ := dx_b1_some hF
        refine mo_cVv S V [] (mo_m_readsContact l D di dz h ad A   σ _ h14c) (cwV 0 hts (lw_V q1795 q1797 qs49 q83 q1798) rfl rfl rfl mo_d_readsContact ⟨Nat.le_of_ble_eq_true rfl, Nat.le_of_ble_eq_true rfl⟩) rfl rfl hl.1 (Nat.le_of_ble_eq_true rfl) dX6_net_174 (fun _ _ V => ?_)
        refine lv_goto (tgt := 164) hx hb dX6_net_177 (by decide) ?_
        replace hF := Option.some.inj hF
        subst hF
        exact ih164 σ14 _ _ _ (dx_lk_l hz164) V (lv_sub hl [0] rfl)
  have hJ160 : ∀ (σ : mo_S) (t1 : Bool) (H : Heap) (locs : List Loc) (ls : Array Slot), mo_net_J160 σ t1 = some (r, σ') → mo_V D di dz h ad A s.heap σ s H locs → lv_has ls 2 [(0, .ref h)] → W p l e ({ frames := 6, cells := 0, slots := 0, locals := 134 }) s m ([.ref h] : List Value).toArray below meth c H locs 0 0 (MQ below (mo_Qi D di dz h ad A r σ') ([.ref h] : List Value).toArray s 0 0 A) (F0 m 160 ls [.int (dx_bI t1), .ref h]) := by
    intro σ t1 H locs ls hF V hl
    unfold mo_net_J160 at hF
    refine lv_iconst (v := 1) hx hb dX6_net_160 (by decide) ?_
    obtain ⟨σ7, h7c, hF⟩ := dx_b1_some hF
    refine mo_cVv S V [.int (dx_bI t1), .int (1 : Int32)] (mo_m_must l D di dz h ad A  t1 (1 : Int32) σ _ h7c) (cwV 2 hts (lw_V q1787 q1789 qs47 q83 q1790) rfl rfl rfl mo_d_must ⟨Nat.le_of_ble_eq_true rfl, Nat.le_of_ble_eq_true rfl⟩) rfl rfl hl.1 (Nat.le_of_ble_eq_true rfl) dX6_net_161 (fun _ _ V => ?_)
    exact hL164  dx_fu σ7 _ _ _ hF V (lv_sub hl [0] rfl)
  have hJ145 : ∀ (σ : mo_S) (H : Heap) (locs : List Loc) (ls : Array Slot), mo_net_J145 σ = some (r, σ') → mo_V D di dz h ad A s.heap σ s H locs → lv_has ls 2 [(0, .ref h)] → W p l e ({ frames := 6, cells := 0, slots := 0, locals := 134 }) s m ([.ref h] : List Value).toArray below meth c H locs 0 0 (MQ below (mo_Qi D di dz h ad A r σ') ([.ref h] : List Value).toArray s 0 0 A) (F0 m 145 ls []) := by
    intro σ H locs ls hF V hl
    unfold mo_net_J145 at hF
    refine lv_aload_n hx hb dX6_net_145 rfl (lv_at hl 0 rfl) ?_
    refine lv_aload_n hx hb dX6_net_146 rfl (lv_at hl 0 rfl) ?_
    refine mo_get S V 14 (by decide) rfl q1629 rfl dX6_net_147 ?_
    refine lv_iconst (v := 0) hx hb dX6_net_150 (by decide) ?_
    refine mo_ld S V 6 (by decide) (dx_inb_in rfl) dX6_net_151 ?_
    refine lv_if_le (tgt := 159) hx hb dX6_net_152 (by decide) (fun hc => ?_) (fun hc => ?_)
    · replace hF := (if_pos hc).symm.trans hF
      refine lv_iconst (v := 0) hx hb dX6_net_159 (by decide) ?_
      exact hJ160 σ false _ _ _ hF V (lv_sub hl [0] rfl)
    · replace hF := (if_neg hc).symm.trans hF
      refine lv_iconst (v := 1) hx hb dX6_net_155 (by decide) ?_
      refine lv_goto (tgt := 160) hx hb dX6_net_156 (by decide) ?_
      exact hJ160 σ true _ _ _ hF V (lv_sub hl [0] rfl)
  have hL113 : ∀  (n : Nat) (σ : mo_S) (H : Heap) (locs : List Loc) (ls : Array Slot), dx_lp (fun x => mo_net_L113 x) n σ = some (r, σ') → mo_V D di dz h ad A s.heap σ s H locs → lv_has ls 2 [(0, .ref h)] → W p l e ({ frames := 6, cells := 0, slots := 0, locals := 134 }) s m ([.ref h] : List Value).toArray below meth c H locs 0 0 (MQ below (mo_Qi D di dz h ad A r σ') ([.ref h] : List Value).toArray s 0 0 A) (F0 m 113 ls []) := by
    intro n
    induction n with
    | zero =>
      intro σ H locs ls hF V hl
      exact (dx_lp_0 hF).elim
    | succ n ih113 =>
      intro σ H locs ls hF V hl
      obtain ⟨y113, hF, hz113⟩ := dx_lp_s hF
      replace hF : mo_net_L113 σ = some y113 := hF
      unfold mo_net_L113 at hF
      refine lv_aload_n hx hb dX6_net_113 rfl (lv_at hl 0 rfl) ?_
      obtain ⟨r6, h6c, hF⟩ := dx_b1_some hF
      refine mo_cVi S V [] (mo_m_isWell l D di dz h ad A   σ _ h6c) (cwV 0 hts (lw_V q1768 q1770 qs43 q83 q1771) rfl rfl rfl mo_d_isWell ⟨Nat.le_of_ble_eq_true rfl, Nat.le_of_ble_eq_true rfl⟩) rfl rfl hl.1 (Nat.le_of_ble_eq_true rfl) dX6_net_114 (fun _ _ V => ?_)
      refine lv_if_eq (tgt := 145) hx hb dX6_net_117 (by decide) (fun hc => ?_) (fun hc => ?_)
      · replace hF := dx_ib_f (dx_bI_0 hc) hF
        replace hF := dx_ex_k hF hz113
        exact hJ145 σ _ _ _ hF V (lv_sub hl [0] rfl)
      · replace hF := dx_ib_t (dx_bI_n hc) hF
        refine lv_aload_n hx hb dX6_net_120 rfl (lv_at hl 0 rfl) ?_
        refine mo_get S V 11 (by decide) rfl q1626 rfl dX6_net_121 ?_
        refine lv_iconst (v := 1) hx hb dX6_net_124 (by decide) ?_
        refine lv_icmp_ne (tgt := 145) hx hb dX6_net_125 (by decide) (fun hc => ?_) (fun hc => ?_)
        · replace hF := (if_neg hc).symm.trans hF
          replace hF := dx_ex_k hF hz113
          exact hJ145 σ _ _ _ hF V (lv_sub hl [0] rfl)
        · replace hF := (if_pos hc).symm.trans hF
          refine lv_aload_n hx hb dX6_net_128 rfl (lv_at hl 0 rfl) ?_
          refine mo_get S V 12 (by decide) rfl q1627 rfl dX6_net_129 ?_
          obtain ⟨r15, h15c, hF⟩ := dx_b1_some hF
          refine dx_cPi S [.int (σ.1 7)] (mo_m_kindOf l (σ.1 7) _ h15c) (va_cwS 1 hts (lw_S q1780 q1781 q83 q1782) rfl rfl rfl mo_d_kindOf ⟨Nat.le_of_ble_eq_true rfl, Nat.le_of_ble_eq_true rfl⟩) rfl rfl hl.1 (Nat.le_of_ble_eq_true rfl) dX6_net_132 ⟨Nat.zero_le _, Nat.zero_le _⟩ ?_
          refine lv_if_le (tgt := 145) hx hb dX6_net_135 (by decide) (fun hc => ?_) (fun hc => ?_)
          · replace hF := (if_pos hc).symm.trans hF
            replace hF := dx_ex_k hF hz113
            exact hJ145 σ _ _ _ hF V (lv_sub hl [0] rfl)
          · replace hF := (if_neg hc).symm.trans hF
            refine lv_aload_n hx hb dX6_net_138 rfl (lv_at hl 0 rfl) ?_
            obtain ⟨σ16, h16c, hF⟩ := dx_b1_some hF
            refine mo_cVv S V [] (mo_m_readsPerson l D di dz h ad A   σ _ h16c) (cwV 0 hts (lw_V q1783 q1785 qs46 q83 q1786) rfl rfl rfl mo_d_readsPerson ⟨Nat.le_of_ble_eq_true rfl, Nat.le_of_ble_eq_true rfl⟩) rfl rfl hl.1 (Nat.le_of_ble_eq_true rfl) dX6_net_139 (fun _ _ V => ?_)
            refine lv_goto (tgt := 113) hx hb dX6_net_142 (by decide) ?_
            replace hF := Option.some.inj hF
            subst hF
            exact ih113 σ16 _ _ _ (dx_lk_l hz113) V (lv_sub hl [0] rfl)
  have hJ108 : ∀ (σ : mo_S) (t1 : Bool) (H : Heap) (locs : List Loc) (ls : Array Slot), mo_net_J108 σ t1 = some (r, σ') → mo_V D di dz h ad A s.heap σ s H locs → lv_has ls 2 [(0, .ref h)] → W p l e ({ frames := 6, cells := 0, slots := 0, locals := 134 }) s m ([.ref h] : List Value).toArray below meth c H locs 0 0 (MQ below (mo_Qi D di dz h ad A r σ') ([.ref h] : List Value).toArray s 0 0 A) (F0 m 108 ls [.int (dx_bI t1), .ref h]) := by
    intro σ t1 H locs ls hF V hl
    unfold mo_net_J108 at hF
    refine lv_iconst (v := 1) hx hb dX6_net_108 (by decide) ?_
    obtain ⟨r5, σ5, h5c, hF⟩ := dx_b2_some hF
    refine mo_cVi S V [.int (dx_bI t1), .int (1 : Int32)] (mo_m_takes l D di dz h ad A  t1 (1 : Int32) σ _ _ h5c) (cwV 2 hts (lw_V q1764 q1766 qs42 q83 q1767) rfl rfl rfl mo_d_takes ⟨Nat.le_of_ble_eq_true rfl, Nat.le_of_ble_eq_true rfl⟩) rfl rfl hl.1 (Nat.le_of_ble_eq_true rfl) dX6_net_109 (fun _ _ V => ?_)
    refine lv_pop hx hb dX6_net_112 rfl ?_
    exact hL113  dx_fu σ5 _ _ _ hF V (lv_sub hl [0] rfl)
  have hJ58 : ∀ (σ : mo_S) (t1 : Bool) (H : Heap) (locs : List Loc) (ls : Array Slot), mo_net_J58 σ t1 = some (r, σ') → mo_V D di dz h ad A s.heap σ s H locs → lv_has ls 2 [(0, .ref h)] → W p l e ({ frames := 6, cells := 0, slots := 0, locals := 134 }) s m ([.ref h] : List Value).toArray below meth c H locs 0 0 (MQ below (mo_Qi D di dz h ad A r σ') ([.ref h] : List Value).toArray s 0 0 A) (F0 m 58 ls [.int (dx_bI t1), .ref h]) := by
    intro σ t1 H locs ls hF V hl
    unfold mo_net_J58 at hF
    refine lv_iconst (v := 1) hx hb dX6_net_58 (by decide) ?_
    obtain ⟨r2, σ2, h2c, hF⟩ := dx_b2_some hF
    refine mo_cVi S V [.int (dx_bI t1), .int (1 : Int32)] (mo_m_takes l D di dz h ad A  t1 (1 : Int32) σ _ _ h2c) (cwV 2 hts (lw_V q1764 q1766 qs42 q83 q1767) rfl rfl rfl mo_d_takes ⟨Nat.le_of_ble_eq_true rfl, Nat.le_of_ble_eq_true rfl⟩) rfl rfl hl.1 (Nat.le_of_ble_eq_true rfl) dX6_net_59 (fun _ _ V => ?_)
    refine lv_pop hx hb dX6_net_62 rfl ?_
    refine lv_aload_n hx hb dX6_net_63 rfl (lv_at hl 0 rfl) ?_
    refine mo_get S V 14 (by decide) rfl q1629 rfl dX6_net_64 ?_
    refine lv_iconst (v := 2) hx hb dX6_net_67 (by decide) ?_
    refine lv_aload_n hx hb dX6_net_68 rfl (lv_at hl 0 rfl) ?_
    refine lv_iconst (v := 1) hx hb dX6_net_69 (by decide) ?_
    refine lv_bipush (v := 9) hx hb dX6_net_70 (by decide) ?_
    obtain ⟨r3, σ3, h3c, hF⟩ := dx_b2_some hF
    refine mo_cVi S V [.int (1 : Int32), .int (9 : Int32)] (mo_m_figure l D di dz h ad A  (1 : Int32) (9 : Int32) σ2 _ _ h3c) (cwV 2 hts (lw_V q1772 q1774 qs44 q83 q1775) rfl rfl rfl mo_d_figure ⟨Nat.le_of_ble_eq_true rfl, Nat.le_of_ble_eq_true rfl⟩) rfl rfl hl.1 (Nat.le_of_ble_eq_true rfl) dX6_net_72 (fun _ _ V => ?_)
    refine mo_st S V 6 (by decide) (dx_inb_in rfl) dX6_net_75 (fun _ _ V => ?_)
    refine lv_aload_n hx hb dX6_net_76 rfl (lv_at hl 0 rfl) ?_
    refine mo_get S V 14 (by decide) rfl q1629 rfl dX6_net_77 ?_
    refine lv_iconst (v := 3) hx hb dX6_net_80 (by decide) ?_
    refine lv_aload_n hx hb dX6_net_81 rfl (lv_at hl 0 rfl) ?_
    refine lv_aload_n hx hb dX6_net_82 rfl (lv_at hl 0 rfl) ?_
    refine mo_get S V 14 (by decide) rfl q1629 rfl dX6_net_83 ?_
    refine lv_iconst (v := 2) hx hb dX6_net_86 (by decide) ?_
    refine mo_ld S V 6 (by decide) (dx_inb_in rfl) dX6_net_87 ?_
    refine lv_bipush (v := 20) hx hb dX6_net_88 (by decide) ?_
    obtain ⟨r4, σ4, h4c, hF⟩ := dx_b2_some hF
    refine mo_cVi S V [.int ((mo_A σ3 6 ((2 : Int32).toNatClampNeg) r3).2 6 (2 : Int32).toNatClampNeg), .int (20 : Int32)] (mo_m_behind l D di dz h ad A  ((mo_A σ3 6 ((2 : Int32).toNatClampNeg) r3).2 6 (2 : Int32).toNatClampNeg) (20 : Int32) (mo_A σ3 6 ((2 : Int32).toNatClampNeg) r3) _ _ h4c) (cwV 2 hts (lw_V q1776 q1778 qs45 q83 q1779) rfl rfl rfl mo_d_behind ⟨Nat.le_of_ble_eq_true rfl, Nat.le_of_ble_eq_true rfl⟩) rfl rfl hl.1 (Nat.le_of_ble_eq_true rfl) dX6_net_90 (fun _ _ V => ?_)
    refine mo_st S V 6 (by decide) (dx_inb_in rfl) dX6_net_93 (fun _ _ V => ?_)
    refine lv_aload_n hx hb dX6_net_94 rfl (lv_at hl 0 rfl) ?_
    refine lv_aload_n hx hb dX6_net_95 rfl (lv_at hl 0 rfl) ?_
    refine mo_get S V 11 (by decide) rfl q1626 rfl dX6_net_96 ?_
    refine lv_iconst (v := 4) hx hb dX6_net_99 (by decide) ?_
    refine lv_icmp_ne (tgt := 107) hx hb dX6_net_100 (by decide) (fun hc => ?_) (fun hc => ?_)
    · replace hF := (if_neg hc).symm.trans hF
      refine lv_iconst (v := 0) hx hb dX6_net_107 (by decide) ?_
      exact hJ108 (mo_A σ4 6 ((3 : Int32).toNatClampNeg) r4) false _ _ _ hF V (lv_sub hl [0] rfl)
    · replace hF := (if_pos hc).symm.trans hF
      refine lv_iconst (v := 1) hx hb dX6_net_103 (by decide) ?_
      refine lv_goto (tgt := 108) hx hb dX6_net_104 (by decide) ?_
      exact hJ108 (mo_A σ4 6 ((3 : Int32).toNatClampNeg) r4) true _ _ _ hF V (lv_sub hl [0] rfl)
  have hL2 : ∀  (n : Nat) (v1 : Int32) (σ : mo_S) (H : Heap) (locs : List Loc) (ls : Array Slot), dx_lp (fun x => mo_net_L2 x.2 x.1) n (v1, σ) = some (r, σ') → mo_V D di dz h ad A s.heap σ s H locs → lv_has ls 2 [(0, .ref h), (1, .int v1)] → W p l e ({ frames := 6, cells := 0, slots := 0, locals := 134 }) s m ([.ref h] : List Value).toArray below meth c H locs 0 0 (MQ below (mo_Qi D di dz h ad A r σ') ([.ref h] : List Value).toArray s 0 0 A) (F0 m 2 ls []) := by
    intro n
    induction n with
    | zero =>
      intro v1 σ H locs ls hF V hl
      exact (dx_lp_0 hF).elim
    | succ n ih2 =>
      intro v1 σ H locs ls hF V hl
      obtain ⟨y2, hF, hz2⟩ := dx_lp_s hF
      replace hF : mo_net_L2 σ v1 = some y2 := hF
      unfold mo_net_L2 at hF
      refine lv_iload_n hx hb dX6_net_2 rfl (lv_at hl 1 rfl) ?_
      refine lv_bipush (v := 52) hx hb dX6_net_3 (by decide) ?_
      refine lv_icmp_ge (tgt := 21) hx hb dX6_net_5 (by decide) (fun hc => ?_) (fun hc => ?_)
      · replace hF := (if_pos hc).symm.trans hF
        replace hF := dx_ex_k hF hz2
        refine lv_aload_n hx hb dX6_net_21 rfl (lv_at hl 0 rfl) ?_
        refine lv_iconst (v := 0) hx hb dX6_net_22 (by decide) ?_
        refine mo_put S V 9 4 (by decide) rfl q1624 rfl rfl rfl dX6_net_23 (fun _ _ V => ?_)
        refine lv_aload_n hx hb dX6_net_26 rfl (lv_at hl 0 rfl) ?_
        refine lv_iconst (v := (-1)) hx hb dX6_net_27 (by decide) ?_
        refine mo_put S V 8 3 (by decide) rfl q1623 rfl rfl rfl dX6_net_28 (fun _ _ V => ?_)
        refine lv_aload_n hx hb dX6_net_31 rfl (lv_at hl 0 rfl) ?_
        obtain ⟨σ1, h1c, hF⟩ := dx_b1_some hF
        refine mo_cVv S V [] (mo_m_advances l D di dz h ad A   (mo_I (mo_I σ 4 (0 : Int32)) 3 (-1 : Int32)) _ h1c) (cwV 0 hts (lw_V q1756 q1758 qs40 q83 q1759) rfl rfl rfl mo_d_advances ⟨Nat.le_of_ble_eq_true rfl, Nat.le_of_ble_eq_true rfl⟩) rfl rfl hl.1 (Nat.le_of_ble_eq_true rfl) dX6_net_32 (fun _ _ V => ?_)
        refine lv_aload_n hx hb dX6_net_35 rfl (lv_at hl 0 rfl) ?_
        refine lv_aload_n hx hb dX6_net_36 rfl (lv_at hl 0 rfl) ?_
        refine mo_get S V 11 (by decide) rfl q1626 rfl dX6_net_37 ?_
        refine lv_iconst (v := 1) hx hb dX6_net_40 (by decide) ?_
        refine lv_icmp_ne (tgt := 57) hx hb dX6_net_41 (by decide) (fun hc => ?_) (fun hc => ?_)
        · replace hF := (if_neg hc).symm.trans hF
          refine lv_iconst (v := 0) hx hb dX6_net_57 (by decide) ?_
          exact hJ58 σ1 false _ _ _ hF V (lv_sub hl [0] rfl)
        · replace hF := (if_pos hc).symm.trans hF
          refine lv_aload_n hx hb dX6_net_44 rfl (lv_at hl 0 rfl) ?_
          refine mo_get S V 12 (by decide) rfl q1627 rfl dX6_net_45 ?_
          refine lv_bipush (v := 119) hx hb dX6_net_48 (by decide) ?_
          refine lv_icmp_ne (tgt := 57) hx hb dX6_net_50 (by decide) (fun hc => ?_) (fun hc => ?_)
          · replace hF := (if_neg hc).symm.trans hF
            refine lv_iconst (v := 0) hx hb dX6_net_57 (by decide) ?_
            exact hJ58 σ1 false _ _ _ hF V (lv_sub hl [0] rfl)
          · replace hF := (if_pos hc).symm.trans hF
            refine lv_iconst (v := 1) hx hb dX6_net_53 (by decide) ?_
            refine lv_goto (tgt := 58) hx hb dX6_net_54 (by decide) ?_
            exact hJ58 σ1 true _ _ _ hF V (lv_sub hl [0] rfl)
      · replace hF := (if_neg hc).symm.trans hF
        refine lv_aload_n hx hb dX6_net_8 rfl (lv_at hl 0 rfl) ?_
        refine mo_get S V 14 (by decide) rfl q1629 rfl dX6_net_9 ?_
        refine lv_iload_n hx hb dX6_net_12 rfl (lv_at hl 1 rfl) ?_
        refine lv_iconst (v := 0) hx hb dX6_net_13 (by decide) ?_
        obtain ⟨hg, hF⟩ := dx_gd_some hF
        refine mo_st S V 6 (by decide) (dx_inb_in hg) dX6_net_14 (fun _ _ V => ?_)
        refine lv_iinc (v := (v1 + (1 : Int32))) (lv' := [(1, .int (v1 + (1 : Int32))), (0, .ref h)]) hx hb dX6_net_15 hl (k := 1) rfl rfl (by decide) rfl (fun ls hl => ?_)
        refine lv_goto (tgt := 2) hx hb dX6_net_18 (by decide) ?_
        replace hF := Option.some.inj hF
        subst hF
        exact ih2 (v1 + (1 : Int32)) (mo_A σ 6 v1.toNatClampNeg (0 : Int32)) _ _ _ (dx_lk_l hz2) V (lv_sub hl [1, 0] rfl)
  refine lv_iconst (v := 0) hx hb dX6_net_0 (by decide) ?_
  refine lv_istore_n (lv' := [(1, .int (0 : Int32)), (0, .ref h)]) hx hb dX6_net_1 rfl hl (by decide) rfl (fun ls hl => ?_)
  exact hL2  dx_fu (0 : Int32) σ0 _ _ _ hF V (lv_sub hl [1, 0] rfl)
theorem mo_d_fault : yX6_fault.cls = RX6 ∧ yX6_fault.cls ≠ "java/lang/invoke/MethodHandle" ∧ yX6_fault.cls ≠ "java/lang/invoke/VarHandle" ∧ (parseMethodDescriptor yX6_fault.desc).map (fun d => d.parameters.length) = some 0 := by decide +kernel
set_option maxHeartbeats 4000000 in
set_option maxRecDepth 100000 in
theorem mo_m_fault (l : Launch) (D : va_G) (di dz : ClassId) (h : Nat) (ad : Nat → Nat) (A : Nat → Prop)   (σ0 : mo_S) (r : Int32) (hF : mo_fault σ0 = some r) : mo_Ci l yX6_fault cX6_fault 1 .int ({ frames := 0, cells := 0, slots := 0, locals := 0 }) D di dz h ad A [.ref h] σ0 r σ0 := by
  refine dx_in RX6 rfl (by decide) (Nat.le_of_ble_eq_true rfl) ?_
  intro p e s m below meth c ls S hr hlocks hv hl
  have hx := S.1
  have hb := S.2.1
  have hown := S.2.2.2.1
  have hts := S.2.2.2.2
  obtain ⟨hK, hP, hD⟩ := hv
  have V : mo_V D di dz h ad A s.heap σ0 s s.heap [] := ⟨hK, hP, hD, va_S.rf⟩
  replace hl : lv_has ls 1 [(0, .ref h)] := hl
  unfold mo_fault at hF
  refine lv_aload_n hx hb dX6_fault_0 rfl (lv_at hl 0 rfl) ?_
  refine mo_get S V 7 (by decide) rfl q1622 rfl dX6_fault_1 ?_
  replace hF := Option.some.inj hF
  subst hF
  exact mo_ri S V hr hlocks rfl dX6_fault_4
theorem mo_d_isPerson : yX6_isPerson.cls = RX6 ∧ yX6_isPerson.cls ≠ "java/lang/invoke/MethodHandle" ∧ yX6_isPerson.cls ≠ "java/lang/invoke/VarHandle" ∧ (parseMethodDescriptor yX6_isPerson.desc).map (fun d => d.parameters.length) = some 1 := by decide +kernel
set_option maxHeartbeats 4000000 in
set_option maxRecDepth 100000 in
theorem mo_m_isPerson (l : Launch) (D : va_G) (di dz : ClassId) (h : Nat) (ad : Nat → Nat) (A : Nat → Prop)  (p0 : Int32) (σ0 : mo_S) (r : Bool) (hF : mo_isPerson σ0 p0 = some r) : mo_Ci l yX6_isPerson cX6_isPerson 2 .boolean ({ frames := 1, cells := 0, slots := 0, locals := 22 }) D di dz h ad A [.ref h, .int p0] σ0 (dx_bI r) σ0 := by
  refine dx_in RX6 rfl (by decide) (Nat.le_of_ble_eq_true rfl) ?_
  intro p e s m below meth c ls S hr hlocks hv hl
  have hx := S.1
  have hb := S.2.1
  have hown := S.2.2.2.1
  have hts := S.2.2.2.2
  obtain ⟨hK, hP, hD⟩ := hv
  have V : mo_V D di dz h ad A s.heap σ0 s s.heap [] := ⟨hK, hP, hD, va_S.rf⟩
  replace hl : lv_has ls 2 [(0, .ref h), (1, .int p0)] := hl
  unfold mo_isPerson at hF
  refine lv_iload_n hx hb dX6_isPerson_0 rfl (lv_at hl 1 rfl) ?_
  refine lv_iconst (v := 0) hx hb dX6_isPerson_1 (by decide) ?_
  refine lv_aload_n hx hb dX6_isPerson_2 rfl (lv_at hl 0 rfl) ?_
  refine mo_get S V 13 (by decide) rfl q1628 rfl dX6_isPerson_3 ?_
  refine lv_iconst (v := 0) hx hb dX6_isPerson_6 (by decide) ?_
  refine mo_ld S V 5 (by decide) (dx_inb_in rfl) dX6_isPerson_7 ?_
  refine lv_iconst (v := 1) hx hb dX6_isPerson_8 (by decide) ?_
  refine lv_isub hx hb dX6_isPerson_9 ?_
  obtain ⟨r1, h1c, hF⟩ := dx_b1_some hF
  refine dx_cPi S [.int p0, .int (0 : Int32), .int ((σ0.2 5 (0 : Int32).toNatClampNeg) - (1 : Int32))] (mo_m_in l p0 (0 : Int32) ((σ0.2 5 (0 : Int32).toNatClampNeg) - (1 : Int32)) _ h1c) (va_cwS 3 hts (lw_S q1711 q1712 q83 q1713) rfl rfl rfl mo_d_in ⟨Nat.le_of_ble_eq_true rfl, Nat.le_of_ble_eq_true rfl⟩) rfl rfl hl.1 (Nat.le_of_ble_eq_true rfl) dX6_isPerson_10 ⟨Nat.zero_le _, Nat.zero_le _⟩ ?_
  replace hF := Option.some.inj hF
  subst hF
  exact mo_ri S V hr hlocks (dx_bI_nar _) dX6_isPerson_13
theorem mo_d_notes : yX6_notes.cls = RX6 ∧ yX6_notes.cls ≠ "java/lang/invoke/MethodHandle" ∧ yX6_notes.cls ≠ "java/lang/invoke/VarHandle" ∧ (parseMethodDescriptor yX6_notes.desc).map (fun d => d.parameters.length) = some 0 := by decide +kernel
set_option maxHeartbeats 4000000 in
set_option maxRecDepth 100000 in
theorem mo_m_notes (l : Launch) (D : va_G) (di dz : ClassId) (h : Nat) (ad : Nat → Nat) (A : Nat → Prop)   (σ0 : mo_S) (σ' : mo_S) (hF : mo_notes σ0 = some σ') : mo_Cv l yX6_notes cX6_notes 2 ({ frames := 1, cells := 0, slots := 0, locals := 24 }) D di dz h ad A [.ref h] σ0 σ' := by
  refine dx_in RX6 rfl (by decide) (Nat.le_of_ble_eq_true rfl) ?_
  intro p e s m below meth c ls S hr hlocks hv hl
  have hx := S.1
  have hb := S.2.1
  have hown := S.2.2.2.1
  have hts := S.2.2.2.2
  obtain ⟨hK, hP, hD⟩ := hv
  have V : mo_V D di dz h ad A s.heap σ0 s s.heap [] := ⟨hK, hP, hD, va_S.rf⟩
  replace hl : lv_has ls 2 [(0, .ref h)] := hl
  unfold mo_notes at hF
  have hJ49 : ∀ (σ : mo_S) (H : Heap) (locs : List Loc) (ls : Array Slot), mo_notes_J49 σ = some σ' → mo_V D di dz h ad A s.heap σ s H locs → lv_has ls 2 [(0, .ref h)] → W p l e ({ frames := 1, cells := 0, slots := 0, locals := 24 }) s m ([.ref h] : List Value).toArray below meth c H locs 0 0 (MQ below (mo_Qv D di dz h ad A σ') ([.ref h] : List Value).toArray s 0 0 A) (F0 m 49 ls []) := by
    intro σ H locs ls hF V hl
    unfold mo_notes_J49 at hF
    refine lv_aload_n hx hb dX6_notes_49 rfl (lv_at hl 0 rfl) ?_
    refine mo_get S V 13 (by decide) rfl q1628 rfl dX6_notes_50 ?_
    refine lv_iconst (v := 0) hx hb dX6_notes_53 (by decide) ?_
    refine lv_aload_n hx hb dX6_notes_54 rfl (lv_at hl 0 rfl) ?_
    refine mo_get S V 16 (by decide) rfl q1631 rfl dX6_notes_55 ?_
    refine lv_bipush (v := 52) hx hb dX6_notes_58 (by decide) ?_
    refine lv_aload_n hx hb dX6_notes_60 rfl (lv_at hl 0 rfl) ?_
    refine mo_get S V 17 (by decide) rfl q1632 rfl dX6_notes_61 ?_
    refine lv_imul hx hb dX6_notes_64 ?_
    obtain ⟨σ1, h1c, hF⟩ := dx_b1_some hF
    refine mo_cSv S V [.ref (ad 5), .int (0 : Int32), .ref (ad 8), .int ((52 : Int32) * (σ.1 8))] (mo_m_copies l D di dz h ad A 5 (by decide) 8 (by decide) (0 : Int32) ((52 : Int32) * (σ.1 8)) σ _ h1c) (va_cwS 4 hts (lw_S q1804 q1805 q83 q1806) rfl rfl rfl mo_d_copies ⟨Nat.le_of_ble_eq_true rfl, Nat.le_of_ble_eq_true rfl⟩) rfl rfl hl.1 (Nat.le_of_ble_eq_true rfl) dX6_notes_65 (fun _ _ V => ?_)
    refine lv_aload_n hx hb dX6_notes_68 rfl (lv_at hl 0 rfl) ?_
    refine lv_dup hx hb dX6_notes_69 rfl ?_
    refine mo_get S V 17 (by decide) rfl q1632 rfl dX6_notes_70 ?_
    refine lv_iconst (v := 1) hx hb dX6_notes_73 (by decide) ?_
    refine lv_iadd hx hb dX6_notes_74 ?_
    refine mo_put S V 17 8 (by decide) rfl q1632 rfl rfl rfl dX6_notes_75 (fun _ _ V => ?_)
    replace hF := Option.some.inj hF
    subst hF
    exact mo_rv S V hr hlocks dX6_notes_78
  have hL11 : ∀  (n : Nat) (v1 : Int32) (σ : mo_S) (H : Heap) (locs : List Loc) (ls : Array Slot), dx_lp (fun x => mo_notes_L11 x.2 x.1) n (v1, σ) = some σ' → mo_V D di dz h ad A s.heap σ s H locs → lv_has ls 2 [(0, .ref h), (1, .int v1)] → W p l e ({ frames := 1, cells := 0, slots := 0, locals := 24 }) s m ([.ref h] : List Value).toArray below meth c H locs 0 0 (MQ below (mo_Qv D di dz h ad A σ') ([.ref h] : List Value).toArray s 0 0 A) (F0 m 11 ls []) := by
    intro n
    induction n with
    | zero =>
      intro v1 σ H locs ls hF V hl
      exact (dx_lp_0 hF).elim
    | succ n ih11 =>
      intro v1 σ H locs ls hF V hl
      obtain ⟨y11, hF, hz11⟩ := dx_lp_s hF
      replace hF : mo_notes_L11 σ v1 = some y11 := hF
      unfold mo_notes_L11 at hF
      refine lv_iload_n hx hb dX6_notes_11 rfl (lv_at hl 1 rfl) ?_
      refine lv_sipush (v := 780) hx hb dX6_notes_12 (by decide) ?_
      refine lv_icmp_ge (tgt := 39) hx hb dX6_notes_15 (by decide) (fun hc => ?_) (fun hc => ?_)
      · replace hF := (if_pos hc).symm.trans hF
        replace hF := dx_ex_k hF hz11
        refine lv_aload_n hx hb dX6_notes_39 rfl (lv_at hl 0 rfl) ?_
        refine lv_dup hx hb dX6_notes_40 rfl ?_
        refine mo_get S V 17 (by decide) rfl q1632 rfl dX6_notes_41 ?_
        refine lv_iconst (v := 1) hx hb dX6_notes_44 (by decide) ?_
        refine lv_isub hx hb dX6_notes_45 ?_
        refine mo_put S V 17 8 (by decide) rfl q1632 rfl rfl rfl dX6_notes_46 (fun _ _ V => ?_)
        exact hJ49 (mo_I σ 8 ((σ.1 8) - (1 : Int32))) _ _ _ hF V (lv_sub hl [0] rfl)
      · replace hF := (if_neg hc).symm.trans hF
        refine lv_aload_n hx hb dX6_notes_18 rfl (lv_at hl 0 rfl) ?_
        refine mo_get S V 16 (by decide) rfl q1631 rfl dX6_notes_19 ?_
        refine lv_iload_n hx hb dX6_notes_22 rfl (lv_at hl 1 rfl) ?_
        refine lv_aload_n hx hb dX6_notes_23 rfl (lv_at hl 0 rfl) ?_
        refine mo_get S V 16 (by decide) rfl q1631 rfl dX6_notes_24 ?_
        refine lv_iload_n hx hb dX6_notes_27 rfl (lv_at hl 1 rfl) ?_
        refine lv_bipush (v := 52) hx hb dX6_notes_28 (by decide) ?_
        refine lv_iadd hx hb dX6_notes_30 ?_
        obtain ⟨hg, hF⟩ := dx_gd_some hF
        refine mo_ld S V 8 (by decide) (dx_inb_in hg) dX6_notes_31 ?_
        obtain ⟨hg, hF⟩ := dx_gd_some hF
        refine mo_st S V 8 (by decide) (dx_inb_in hg) dX6_notes_32 (fun _ _ V => ?_)
        refine lv_iinc (v := (v1 + (1 : Int32))) (lv' := [(1, .int (v1 + (1 : Int32))), (0, .ref h)]) hx hb dX6_notes_33 hl (k := 1) rfl rfl (by decide) rfl (fun ls hl => ?_)
        refine lv_goto (tgt := 11) hx hb dX6_notes_36 (by decide) ?_
        replace hF := Option.some.inj hF
        subst hF
        exact ih11 (v1 + (1 : Int32)) (mo_A σ 8 v1.toNatClampNeg (σ.2 8 (v1 + (52 : Int32)).toNatClampNeg)) _ _ _ (dx_lk_l hz11) V (lv_sub hl [1, 0] rfl)
  refine lv_aload_n hx hb dX6_notes_0 rfl (lv_at hl 0 rfl) ?_
  refine mo_get S V 17 (by decide) rfl q1632 rfl dX6_notes_1 ?_
  refine lv_bipush (v := 16) hx hb dX6_notes_4 (by decide) ?_
  refine lv_icmp_ne (tgt := 49) hx hb dX6_notes_6 (by decide) (fun hc => ?_) (fun hc => ?_)
  · replace hF := (if_neg hc).symm.trans hF
    exact hJ49 σ0 _ _ _ hF V (lv_sub hl [0] rfl)
  · replace hF := (if_pos hc).symm.trans hF
    refine lv_iconst (v := 0) hx hb dX6_notes_9 (by decide) ?_
    refine lv_istore_n (lv' := [(1, .int (0 : Int32)), (0, .ref h)]) hx hb dX6_notes_10 rfl hl (by decide) rfl (fun ls hl => ?_)
    exact hL11  dx_fu (0 : Int32) σ0 _ _ _ hF V (lv_sub hl [1, 0] rfl)
theorem mo_d_meet : yX6_meet.cls = RX6 ∧ yX6_meet.cls ≠ "java/lang/invoke/MethodHandle" ∧ yX6_meet.cls ≠ "java/lang/invoke/VarHandle" ∧ (parseMethodDescriptor yX6_meet.desc).map (fun d => d.parameters.length) = some 3 := by decide +kernel
set_option maxHeartbeats 4000000 in
set_option maxRecDepth 100000 in
theorem mo_m_meet (l : Launch) (D : va_G) (di dz : ClassId) (h : Nat) (ad : Nat → Nat) (A : Nat → Prop)  (p0 : Int32) (p1 : Int32) (p2 : Int32) (σ0 : mo_S) (r : Int32) (σ' : mo_S) (hF : mo_meet σ0 p0 p1 p2 = some (r, σ')) : mo_Ci l yX6_meet cX6_meet 5 .int ({ frames := 2, cells := 0, slots := 0, locals := 45 }) D di dz h ad A [.ref h, .int p0, .int p1, .int p2] σ0 r σ' := by
  refine dx_in RX6 rfl (by decide) (Nat.le_of_ble_eq_true rfl) ?_
  intro p e s m below meth c ls S hr hlocks hv hl
  have hx := S.1
  have hb := S.2.1
  have hown := S.2.2.2.1
  have hts := S.2.2.2.2
  obtain ⟨hK, hP, hD⟩ := hv
  have V : mo_V D di dz h ad A s.heap σ0 s s.heap [] := ⟨hK, hP, hD, va_S.rf⟩
  replace hl : lv_has ls 5 [(0, .ref h), (1, .int p0), (2, .int p1), (3, .int p2)] := hl
  unfold mo_meet at hF
  refine lv_aload_n hx hb dX6_meet_0 rfl (lv_at hl 0 rfl) ?_
  refine lv_iload_n hx hb dX6_meet_1 rfl (lv_at hl 1 rfl) ?_
  obtain ⟨r1, h1c, hF⟩ := dx_b1_some hF
  refine mo_cVi S V [.int p0] (mo_m_isPerson l D di dz h ad A  p0 σ0 _ h1c) (cwV 1 hts (lw_V q1815 q1817 qs51 q83 q1818) rfl rfl rfl mo_d_isPerson ⟨Nat.le_of_ble_eq_true rfl, Nat.le_of_ble_eq_true rfl⟩) rfl rfl hl.1 (Nat.le_of_ble_eq_true rfl) dX6_meet_2 (fun _ _ V => ?_)
  refine lv_if_eq (tgt := 31) hx hb dX6_meet_5 (by decide) (fun hc => ?_) (fun hc => ?_)
  · replace hF := dx_ib_f (dx_bI_0 hc) hF
    refine lv_ldc hx hb hown (hts _ q1714) dX6_meet_31 ?_
    obtain ⟨hF1, hF2⟩ := dx_r2 hF
    subst hF1
    subst hF2
    exact mo_ri S V hr hlocks rfl dX6_meet_33
  · replace hF := dx_ib_t (dx_bI_n hc) hF
    refine lv_aload_n hx hb dX6_meet_8 rfl (lv_at hl 0 rfl) ?_
    refine lv_iload_n hx hb dX6_meet_9 rfl (lv_at hl 2 rfl) ?_
    obtain ⟨r2, h2c, hF⟩ := dx_b1_some hF
    refine mo_cVi S V [.int p1] (mo_m_isPerson l D di dz h ad A  p1 σ0 _ h2c) (cwV 1 hts (lw_V q1815 q1817 qs51 q83 q1818) rfl rfl rfl mo_d_isPerson ⟨Nat.le_of_ble_eq_true rfl, Nat.le_of_ble_eq_true rfl⟩) rfl rfl hl.1 (Nat.le_of_ble_eq_true rfl) dX6_meet_10 (fun _ _ V => ?_)
    refine lv_if_eq (tgt := 31) hx hb dX6_meet_13 (by decide) (fun hc => ?_) (fun hc => ?_)
    · replace hF := dx_ib_f (dx_bI_0 hc) hF
      refine lv_ldc hx hb hown (hts _ q1714) dX6_meet_31 ?_
      obtain ⟨hF1, hF2⟩ := dx_r2 hF
      subst hF1
      subst hF2
      exact mo_ri S V hr hlocks rfl dX6_meet_33
    · replace hF := dx_ib_t (dx_bI_n hc) hF
      refine lv_iload_n hx hb dX6_meet_16 rfl (lv_at hl 1 rfl) ?_
      refine lv_iload_n hx hb dX6_meet_17 rfl (lv_at hl 2 rfl) ?_
      refine lv_icmp_eq (tgt := 31) hx hb dX6_meet_18 (by decide) (fun hc => ?_) (fun hc => ?_)
      · replace hF := (if_pos hc).symm.trans hF
        refine lv_ldc hx hb hown (hts _ q1714) dX6_meet_31 ?_
        obtain ⟨hF1, hF2⟩ := dx_r2 hF
        subst hF1
        subst hF2
        exact mo_ri S V hr hlocks rfl dX6_meet_33
      · replace hF := (if_neg hc).symm.trans hF
        refine lv_iload_n hx hb dX6_meet_21 rfl (lv_at hl 3 rfl) ?_
        refine lv_iconst (v := 0) hx hb dX6_meet_22 (by decide) ?_
        refine lv_bipush (v := 30) hx hb dX6_meet_23 (by decide) ?_
        obtain ⟨r3, h3c, hF⟩ := dx_b1_some hF
        refine dx_cPi S [.int p2, .int (0 : Int32), .int (30 : Int32)] (mo_m_in l p2 (0 : Int32) (30 : Int32) _ h3c) (va_cwS 3 hts (lw_S q1711 q1712 q83 q1713) rfl rfl rfl mo_d_in ⟨Nat.le_of_ble_eq_true rfl, Nat.le_of_ble_eq_true rfl⟩) rfl rfl hl.1 (Nat.le_of_ble_eq_true rfl) dX6_meet_25 ⟨Nat.zero_le _, Nat.zero_le _⟩ ?_
        refine lv_if_ne (tgt := 34) hx hb dX6_meet_28 (by decide) (fun hc => ?_) (fun hc => ?_)
        · replace hF := dx_ib_t (dx_bI_n hc) hF
          refine lv_aload_n hx hb dX6_meet_34 rfl (lv_at hl 0 rfl) ?_
          refine mo_get S V 13 (by decide) rfl q1628 rfl dX6_meet_35 ?_
          refine lv_iconst (v := 1) hx hb dX6_meet_38 (by decide) ?_
          refine mo_ld S V 5 (by decide) (dx_inb_in rfl) dX6_meet_39 ?_
          refine lv_bipush (v := 10) hx hb dX6_meet_40 (by decide) ?_
          refine lv_icmp_ne (tgt := 48) hx hb dX6_meet_42 (by decide) (fun hc => ?_) (fun hc => ?_)
          · replace hF := (if_neg hc).symm.trans hF
            refine lv_aload_n hx hb dX6_meet_48 rfl (lv_at hl 0 rfl) ?_
            obtain ⟨σ4, h4c, hF⟩ := dx_b1_some hF
            refine mo_cVv S V [] (mo_m_notes l D di dz h ad A   σ0 _ h4c) (cwV 0 hts (lw_V q1819 q1821 qs52 q83 q1822) rfl rfl rfl mo_d_notes ⟨Nat.le_of_ble_eq_true rfl, Nat.le_of_ble_eq_true rfl⟩) rfl rfl hl.1 (Nat.le_of_ble_eq_true rfl) dX6_meet_49 (fun _ _ V => ?_)
            refine lv_bipush (v := 22) hx hb dX6_meet_52 (by decide) ?_
            refine lv_iconst (v := 3) hx hb dX6_meet_54 (by decide) ?_
            refine lv_aload_n hx hb dX6_meet_55 rfl (lv_at hl 0 rfl) ?_
            refine mo_get S V 13 (by decide) rfl q1628 rfl dX6_meet_56 ?_
            refine lv_iconst (v := 1) hx hb dX6_meet_59 (by decide) ?_
            refine mo_ld S V 5 (by decide) (dx_inb_in rfl) dX6_meet_60 ?_
            refine lv_imul hx hb dX6_meet_61 ?_
            refine lv_iadd hx hb dX6_meet_62 ?_
            refine lv_istore (lv' := [(4, .int ((22 : Int32) + ((3 : Int32) * (σ4.2 5 (1 : Int32).toNatClampNeg)))), (0, .ref h), (1, .int p0), (2, .int p1), (3, .int p2)]) hx hb dX6_meet_63 hl (by decide) rfl (fun ls hl => ?_)
            refine lv_aload_n hx hb dX6_meet_65 rfl (lv_at hl 1 rfl) ?_
            refine mo_get S V 13 (by decide) rfl q1628 rfl dX6_meet_66 ?_
            refine lv_iload hx hb dX6_meet_69 (lv_at hl 0 rfl) ?_
            refine lv_iload_n hx hb dX6_meet_71 rfl (lv_at hl 2 rfl) ?_
            obtain ⟨hg, hF⟩ := dx_gd_some hF
            refine mo_st S V 5 (by decide) (dx_inb_in hg) dX6_meet_72 (fun _ _ V => ?_)
            refine lv_aload_n hx hb dX6_meet_73 rfl (lv_at hl 1 rfl) ?_
            refine mo_get S V 13 (by decide) rfl q1628 rfl dX6_meet_74 ?_
            refine lv_iload hx hb dX6_meet_77 (lv_at hl 0 rfl) ?_
            refine lv_iconst (v := 1) hx hb dX6_meet_79 (by decide) ?_
            refine lv_iadd hx hb dX6_meet_80 ?_
            refine lv_iload_n hx hb dX6_meet_81 rfl (lv_at hl 3 rfl) ?_
            obtain ⟨hg, hF⟩ := dx_gd_some hF
            refine mo_st S V 5 (by decide) (dx_inb_in hg) dX6_meet_82 (fun _ _ V => ?_)
            refine lv_aload_n hx hb dX6_meet_83 rfl (lv_at hl 1 rfl) ?_
            refine mo_get S V 13 (by decide) rfl q1628 rfl dX6_meet_84 ?_
            refine lv_iload hx hb dX6_meet_87 (lv_at hl 0 rfl) ?_
            refine lv_iconst (v := 2) hx hb dX6_meet_89 (by decide) ?_
            refine lv_iadd hx hb dX6_meet_90 ?_
            refine lv_iload_n hx hb dX6_meet_91 rfl (lv_at hl 4 rfl) ?_
            obtain ⟨hg, hF⟩ := dx_gd_some hF
            refine mo_st S V 5 (by decide) (dx_inb_in hg) dX6_meet_92 (fun _ _ V => ?_)
            refine lv_aload_n hx hb dX6_meet_93 rfl (lv_at hl 1 rfl) ?_
            refine mo_get S V 13 (by decide) rfl q1628 rfl dX6_meet_94 ?_
            refine lv_iconst (v := 1) hx hb dX6_meet_97 (by decide) ?_
            refine lv_dup2_11 hx hb dX6_meet_98 rfl rfl ?_
            refine mo_ld S V 5 (by decide) (dx_inb_in rfl) dX6_meet_99 ?_
            refine lv_iconst (v := 1) hx hb dX6_meet_100 (by decide) ?_
            refine lv_iadd hx hb dX6_meet_101 ?_
            refine mo_st S V 5 (by decide) (dx_inb_in rfl) dX6_meet_102 (fun _ _ V => ?_)
            refine lv_aload_n hx hb dX6_meet_103 rfl (lv_at hl 1 rfl) ?_
            refine mo_get S V 13 (by decide) rfl q1628 rfl dX6_meet_104 ?_
            refine lv_iconst (v := 1) hx hb dX6_meet_107 (by decide) ?_
            refine mo_ld S V 5 (by decide) (dx_inb_in rfl) dX6_meet_108 ?_
            obtain ⟨hF1, hF2⟩ := dx_r2 hF
            subst hF1
            subst hF2
            exact mo_ri S V hr hlocks rfl dX6_meet_109
          · replace hF := (if_pos hc).symm.trans hF
            refine lv_ldc hx hb hown (hts _ q1751) dX6_meet_45 ?_
            obtain ⟨hF1, hF2⟩ := dx_r2 hF
            subst hF1
            subst hF2
            exact mo_ri S V hr hlocks rfl dX6_meet_47
        · replace hF := dx_ib_f (dx_bI_0 hc) hF
          refine lv_ldc hx hb hown (hts _ q1714) dX6_meet_31 ?_
          obtain ⟨hF1, hF2⟩ := dx_r2 hF
          subst hF1
          subst hF2
          exact mo_ri S V hr hlocks rfl dX6_meet_33
theorem mo_d_isContact : yX6_isContact.cls = RX6 ∧ yX6_isContact.cls ≠ "java/lang/invoke/MethodHandle" ∧ yX6_isContact.cls ≠ "java/lang/invoke/VarHandle" ∧ (parseMethodDescriptor yX6_isContact.desc).map (fun d => d.parameters.length) = some 1 := by decide +kernel
set_option maxHeartbeats 4000000 in
set_option maxRecDepth 100000 in
theorem mo_m_isContact (l : Launch) (D : va_G) (di dz : ClassId) (h : Nat) (ad : Nat → Nat) (A : Nat → Prop)  (p0 : Int32) (σ0 : mo_S) (r : Bool) (hF : mo_isContact σ0 p0 = some r) : mo_Ci l yX6_isContact cX6_isContact 2 .boolean ({ frames := 1, cells := 0, slots := 0, locals := 22 }) D di dz h ad A [.ref h, .int p0] σ0 (dx_bI r) σ0 := by
  refine dx_in RX6 rfl (by decide) (Nat.le_of_ble_eq_true rfl) ?_
  intro p e s m below meth c ls S hr hlocks hv hl
  have hx := S.1
  have hb := S.2.1
  have hown := S.2.2.2.1
  have hts := S.2.2.2.2
  obtain ⟨hK, hP, hD⟩ := hv
  have V : mo_V D di dz h ad A s.heap σ0 s s.heap [] := ⟨hK, hP, hD, va_S.rf⟩
  replace hl : lv_has ls 2 [(0, .ref h), (1, .int p0)] := hl
  unfold mo_isContact at hF
  refine lv_iload_n hx hb dX6_isContact_0 rfl (lv_at hl 1 rfl) ?_
  refine lv_iconst (v := 0) hx hb dX6_isContact_1 (by decide) ?_
  refine lv_aload_n hx hb dX6_isContact_2 rfl (lv_at hl 0 rfl) ?_
  refine mo_get S V 13 (by decide) rfl q1628 rfl dX6_isContact_3 ?_
  refine lv_iconst (v := 1) hx hb dX6_isContact_6 (by decide) ?_
  refine mo_ld S V 5 (by decide) (dx_inb_in rfl) dX6_isContact_7 ?_
  refine lv_iconst (v := 1) hx hb dX6_isContact_8 (by decide) ?_
  refine lv_isub hx hb dX6_isContact_9 ?_
  obtain ⟨r1, h1c, hF⟩ := dx_b1_some hF
  refine dx_cPi S [.int p0, .int (0 : Int32), .int ((σ0.2 5 (1 : Int32).toNatClampNeg) - (1 : Int32))] (mo_m_in l p0 (0 : Int32) ((σ0.2 5 (1 : Int32).toNatClampNeg) - (1 : Int32)) _ h1c) (va_cwS 3 hts (lw_S q1711 q1712 q83 q1713) rfl rfl rfl mo_d_in ⟨Nat.le_of_ble_eq_true rfl, Nat.le_of_ble_eq_true rfl⟩) rfl rfl hl.1 (Nat.le_of_ble_eq_true rfl) dX6_isContact_10 ⟨Nat.zero_le _, Nat.zero_le _⟩ ?_
  replace hF := Option.some.inj hF
  subst hF
  exact mo_ri S V hr hlocks (dx_bI_nar _) dX6_isContact_13
theorem mo_d_part : yX6_part.cls = RX6 ∧ yX6_part.cls ≠ "java/lang/invoke/MethodHandle" ∧ yX6_part.cls ≠ "java/lang/invoke/VarHandle" ∧ (parseMethodDescriptor yX6_part.desc).map (fun d => d.parameters.length) = some 1 := by decide +kernel
set_option maxHeartbeats 4000000 in
set_option maxRecDepth 100000 in
theorem mo_m_part (l : Launch) (D : va_G) (di dz : ClassId) (h : Nat) (ad : Nat → Nat) (A : Nat → Prop)  (p0 : Int32) (σ0 : mo_S) (r : Int32) (σ' : mo_S) (hF : mo_part σ0 p0 = some (r, σ')) : mo_Ci l yX6_part cX6_part 3 .int ({ frames := 2, cells := 0, slots := 0, locals := 45 }) D di dz h ad A [.ref h, .int p0] σ0 r σ' := by
  refine dx_in RX6 rfl (by decide) (Nat.le_of_ble_eq_true rfl) ?_
  intro p e s m below meth c ls S hr hlocks hv hl
  have hx := S.1
  have hb := S.2.1
  have hown := S.2.2.2.1
  have hts := S.2.2.2.2
  obtain ⟨hK, hP, hD⟩ := hv
  have V : mo_V D di dz h ad A s.heap σ0 s s.heap [] := ⟨hK, hP, hD, va_S.rf⟩
  replace hl : lv_has ls 3 [(0, .ref h), (1, .int p0)] := hl
  unfold mo_part at hF
  have hL22 : ∀  (n : Nat) (v2 : Int32) (σ : mo_S) (H : Heap) (locs : List Loc) (ls : Array Slot), dx_lp (fun x => mo_part_L22 x.2 x.1) n (v2, σ) = some (r, σ') → mo_V D di dz h ad A s.heap σ s H locs → lv_has ls 3 [(0, .ref h), (2, .int v2)] → W p l e ({ frames := 2, cells := 0, slots := 0, locals := 45 }) s m ([.ref h, .int p0] : List Value).toArray below meth c H locs 0 0 (MQ below (mo_Qi D di dz h ad A r σ') ([.ref h, .int p0] : List Value).toArray s 0 0 A) (F0 m 22 ls []) := by
    intro n
    induction n with
    | zero =>
      intro v2 σ H locs ls hF V hl
      exact (dx_lp_0 hF).elim
    | succ n ih22 =>
      intro v2 σ H locs ls hF V hl
      obtain ⟨y22, hF, hz22⟩ := dx_lp_s hF
      replace hF : mo_part_L22 σ v2 = some y22 := hF
      unfold mo_part_L22 at hF
      refine lv_iload_n hx hb dX6_part_22 rfl (lv_at hl 1 rfl) ?_
      refine lv_iconst (v := 3) hx hb dX6_part_23 (by decide) ?_
      refine lv_iadd hx hb dX6_part_24 ?_
      refine lv_bipush (v := 52) hx hb dX6_part_25 (by decide) ?_
      refine lv_icmp_ge (tgt := 50) hx hb dX6_part_27 (by decide) (fun hc => ?_) (fun hc => ?_)
      · replace hF := (if_pos hc).symm.trans hF
        replace hF := dx_ex_k hF hz22
        refine lv_aload_n hx hb dX6_part_50 rfl (lv_at hl 0 rfl) ?_
        refine mo_get S V 13 (by decide) rfl q1628 rfl dX6_part_51 ?_
        refine lv_iconst (v := 1) hx hb dX6_part_54 (by decide) ?_
        refine lv_dup2_11 hx hb dX6_part_55 rfl rfl ?_
        refine mo_ld S V 5 (by decide) (dx_inb_in rfl) dX6_part_56 ?_
        refine lv_iconst (v := 1) hx hb dX6_part_57 (by decide) ?_
        refine lv_isub hx hb dX6_part_58 ?_
        refine mo_st S V 5 (by decide) (dx_inb_in rfl) dX6_part_59 (fun _ _ V => ?_)
        refine lv_aload_n hx hb dX6_part_60 rfl (lv_at hl 0 rfl) ?_
        refine mo_get S V 13 (by decide) rfl q1628 rfl dX6_part_61 ?_
        refine lv_iconst (v := 1) hx hb dX6_part_64 (by decide) ?_
        refine mo_ld S V 5 (by decide) (dx_inb_in rfl) dX6_part_65 ?_
        obtain ⟨hF1, hF2⟩ := dx_r2 hF
        subst hF1
        subst hF2
        exact mo_ri S V hr hlocks rfl dX6_part_66
      · replace hF := (if_neg hc).symm.trans hF
        refine lv_aload_n hx hb dX6_part_30 rfl (lv_at hl 0 rfl) ?_
        refine mo_get S V 13 (by decide) rfl q1628 rfl dX6_part_31 ?_
        refine lv_iload_n hx hb dX6_part_34 rfl (lv_at hl 1 rfl) ?_
        refine lv_aload_n hx hb dX6_part_35 rfl (lv_at hl 0 rfl) ?_
        refine mo_get S V 13 (by decide) rfl q1628 rfl dX6_part_36 ?_
        refine lv_iload_n hx hb dX6_part_39 rfl (lv_at hl 1 rfl) ?_
        refine lv_iconst (v := 3) hx hb dX6_part_40 (by decide) ?_
        refine lv_iadd hx hb dX6_part_41 ?_
        obtain ⟨hg, hF⟩ := dx_gd_some hF
        refine mo_ld S V 5 (by decide) (dx_inb_in hg) dX6_part_42 ?_
        obtain ⟨hg, hF⟩ := dx_gd_some hF
        refine mo_st S V 5 (by decide) (dx_inb_in hg) dX6_part_43 (fun _ _ V => ?_)
        refine lv_iinc (v := (v2 + (1 : Int32))) (lv' := [(2, .int (v2 + (1 : Int32))), (0, .ref h)]) hx hb dX6_part_44 hl (k := 1) rfl rfl (by decide) rfl (fun ls hl => ?_)
        refine lv_goto (tgt := 22) hx hb dX6_part_47 (by decide) ?_
        replace hF := Option.some.inj hF
        subst hF
        exact ih22 (v2 + (1 : Int32)) (mo_A σ 5 v2.toNatClampNeg (σ.2 5 (v2 + (3 : Int32)).toNatClampNeg)) _ _ _ (dx_lk_l hz22) V (lv_sub hl [1, 0] rfl)
  refine lv_aload_n hx hb dX6_part_0 rfl (lv_at hl 0 rfl) ?_
  refine lv_iload_n hx hb dX6_part_1 rfl (lv_at hl 1 rfl) ?_
  obtain ⟨r1, h1c, hF⟩ := dx_b1_some hF
  refine mo_cVi S V [.int p0] (mo_m_isContact l D di dz h ad A  p0 σ0 _ h1c) (cwV 1 hts (lw_V q1827 q1829 qs53 q83 q1830) rfl rfl rfl mo_d_isContact ⟨Nat.le_of_ble_eq_true rfl, Nat.le_of_ble_eq_true rfl⟩) rfl rfl hl.1 (Nat.le_of_ble_eq_true rfl) dX6_part_2 (fun _ _ V => ?_)
  refine lv_if_ne (tgt := 11) hx hb dX6_part_5 (by decide) (fun hc => ?_) (fun hc => ?_)
  · replace hF := dx_ib_t (dx_bI_n hc) hF
    refine lv_aload_n hx hb dX6_part_11 rfl (lv_at hl 0 rfl) ?_
    obtain ⟨σ2, h2c, hF⟩ := dx_b1_some hF
    refine mo_cVv S V [] (mo_m_notes l D di dz h ad A   σ0 _ h2c) (cwV 0 hts (lw_V q1819 q1821 qs52 q83 q1822) rfl rfl rfl mo_d_notes ⟨Nat.le_of_ble_eq_true rfl, Nat.le_of_ble_eq_true rfl⟩) rfl rfl hl.1 (Nat.le_of_ble_eq_true rfl) dX6_part_12 (fun _ _ V => ?_)
    refine lv_bipush (v := 22) hx hb dX6_part_15 (by decide) ?_
    refine lv_iconst (v := 3) hx hb dX6_part_17 (by decide) ?_
    refine lv_iload_n hx hb dX6_part_18 rfl (lv_at hl 1 rfl) ?_
    refine lv_imul hx hb dX6_part_19 ?_
    refine lv_iadd hx hb dX6_part_20 ?_
    refine lv_istore_n (lv' := [(2, .int ((22 : Int32) + ((3 : Int32) * p0))), (0, .ref h), (1, .int p0)]) hx hb dX6_part_21 rfl hl (by decide) rfl (fun ls hl => ?_)
    exact hL22  dx_fu ((22 : Int32) + ((3 : Int32) * p0)) σ2 _ _ _ hF V (lv_sub hl [1, 0] rfl)
  · replace hF := dx_ib_f (dx_bI_0 hc) hF
    refine lv_ldc hx hb hown (hts _ q1714) dX6_part_8 ?_
    obtain ⟨hF1, hF2⟩ := dx_r2 hF
    subst hF1
    subst hF2
    exact mo_ri S V hr hlocks rfl dX6_part_10
theorem mo_d_becomes : yX6_becomes.cls = RX6 ∧ yX6_becomes.cls ≠ "java/lang/invoke/MethodHandle" ∧ yX6_becomes.cls ≠ "java/lang/invoke/VarHandle" ∧ (parseMethodDescriptor yX6_becomes.desc).map (fun d => d.parameters.length) = some 2 := by decide +kernel
set_option maxHeartbeats 4000000 in
set_option maxRecDepth 100000 in
theorem mo_m_becomes (l : Launch) (D : va_G) (di dz : ClassId) (h : Nat) (ad : Nat → Nat) (A : Nat → Prop)  (p0 : Int32) (p1 : Int32) (σ0 : mo_S) (r : Int32) (σ' : mo_S) (hF : mo_becomes σ0 p0 p1 = some (r, σ')) : mo_Ci l yX6_becomes cX6_becomes 4 .int ({ frames := 2, cells := 0, slots := 0, locals := 45 }) D di dz h ad A [.ref h, .int p0, .int p1] σ0 r σ' := by
  refine dx_in RX6 rfl (by decide) (Nat.le_of_ble_eq_true rfl) ?_
  intro p e s m below meth c ls S hr hlocks hv hl
  have hx := S.1
  have hb := S.2.1
  have hown := S.2.2.2.1
  have hts := S.2.2.2.2
  obtain ⟨hK, hP, hD⟩ := hv
  have V : mo_V D di dz h ad A s.heap σ0 s s.heap [] := ⟨hK, hP, hD, va_S.rf⟩
  replace hl : lv_has ls 4 [(0, .ref h), (1, .int p0), (2, .int p1)] := hl
  unfold mo_becomes at hF
  refine lv_aload_n hx hb dX6_becomes_0 rfl (lv_at hl 0 rfl) ?_
  obtain ⟨σ1, h1c, hF⟩ := dx_b1_some hF
  refine mo_cVv S V [] (mo_m_notes l D di dz h ad A   σ0 _ h1c) (cwV 0 hts (lw_V q1819 q1821 qs52 q83 q1822) rfl rfl rfl mo_d_notes ⟨Nat.le_of_ble_eq_true rfl, Nat.le_of_ble_eq_true rfl⟩) rfl rfl hl.1 (Nat.le_of_ble_eq_true rfl) dX6_becomes_1 (fun _ _ V => ?_)
  refine lv_aload_n hx hb dX6_becomes_4 rfl (lv_at hl 0 rfl) ?_
  refine mo_get S V 13 (by decide) rfl q1628 rfl dX6_becomes_5 ?_
  refine lv_iload_n hx hb dX6_becomes_8 rfl (lv_at hl 1 rfl) ?_
  obtain ⟨hg, hF⟩ := dx_gd_some hF
  refine mo_ld S V 5 (by decide) (dx_inb_in hg) dX6_becomes_9 ?_
  refine lv_istore_n (lv' := [(3, .int (σ1.2 5 p0.toNatClampNeg)), (0, .ref h), (1, .int p0), (2, .int p1)]) hx hb dX6_becomes_10 rfl hl (by decide) rfl (fun ls hl => ?_)
  refine lv_aload_n hx hb dX6_becomes_11 rfl (lv_at hl 1 rfl) ?_
  refine mo_get S V 13 (by decide) rfl q1628 rfl dX6_becomes_12 ?_
  refine lv_iload_n hx hb dX6_becomes_15 rfl (lv_at hl 2 rfl) ?_
  refine lv_iload_n hx hb dX6_becomes_16 rfl (lv_at hl 3 rfl) ?_
  obtain ⟨hg, hF⟩ := dx_gd_some hF
  refine mo_st S V 5 (by decide) (dx_inb_in hg) dX6_becomes_17 (fun _ _ V => ?_)
  refine lv_iload_n hx hb dX6_becomes_18 rfl (lv_at hl 0 rfl) ?_
  obtain ⟨hF1, hF2⟩ := dx_r2 hF
  subst hF1
  subst hF2
  exact mo_ri S V hr hlocks rfl dX6_becomes_19
theorem mo_d_date : yX6_date.cls = RX6 ∧ yX6_date.cls ≠ "java/lang/invoke/MethodHandle" ∧ yX6_date.cls ≠ "java/lang/invoke/VarHandle" ∧ (parseMethodDescriptor yX6_date.desc).map (fun d => d.parameters.length) = some 2 := by decide +kernel
set_option maxHeartbeats 4000000 in
set_option maxRecDepth 100000 in
theorem mo_m_date (l : Launch) (D : va_G) (di dz : ClassId) (h : Nat) (ad : Nat → Nat) (A : Nat → Prop)  (p0 : Int32) (p1 : Int32) (σ0 : mo_S) (r : Int32) (σ' : mo_S) (hF : mo_date σ0 p0 p1 = some (r, σ')) : mo_Ci l yX6_date cX6_date 4 .int ({ frames := 3, cells := 0, slots := 0, locals := 68 }) D di dz h ad A [.ref h, .int p0, .int p1] σ0 r σ' := by
  refine dx_in RX6 rfl (by decide) (Nat.le_of_ble_eq_true rfl) ?_
  intro p e s m below meth c ls S hr hlocks hv hl
  have hx := S.1
  have hb := S.2.1
  have hown := S.2.2.2.1
  have hts := S.2.2.2.2
  obtain ⟨hK, hP, hD⟩ := hv
  have V : mo_V D di dz h ad A s.heap σ0 s s.heap [] := ⟨hK, hP, hD, va_S.rf⟩
  replace hl : lv_has ls 4 [(0, .ref h), (1, .int p0), (2, .int p1)] := hl
  unfold mo_date at hF
  refine lv_aload_n hx hb dX6_date_0 rfl (lv_at hl 0 rfl) ?_
  refine lv_iload_n hx hb dX6_date_1 rfl (lv_at hl 1 rfl) ?_
  obtain ⟨r1, h1c, hF⟩ := dx_b1_some hF
  refine mo_cVi S V [.int p0] (mo_m_isContact l D di dz h ad A  p0 σ0 _ h1c) (cwV 1 hts (lw_V q1827 q1829 qs53 q83 q1830) rfl rfl rfl mo_d_isContact ⟨Nat.le_of_ble_eq_true rfl, Nat.le_of_ble_eq_true rfl⟩) rfl rfl hl.1 (Nat.le_of_ble_eq_true rfl) dX6_date_2 (fun _ _ V => ?_)
  refine lv_if_eq (tgt := 18) hx hb dX6_date_5 (by decide) (fun hc => ?_) (fun hc => ?_)
  · replace hF := dx_ib_f (dx_bI_0 hc) hF
    refine lv_ldc hx hb hown (hts _ q1714) dX6_date_18 ?_
    obtain ⟨hF1, hF2⟩ := dx_r2 hF
    subst hF1
    subst hF2
    exact mo_ri S V hr hlocks rfl dX6_date_20
  · replace hF := dx_ib_t (dx_bI_n hc) hF
    refine lv_iload_n hx hb dX6_date_8 rfl (lv_at hl 2 rfl) ?_
    refine lv_iconst (v := 0) hx hb dX6_date_9 (by decide) ?_
    refine lv_bipush (v := 30) hx hb dX6_date_10 (by decide) ?_
    obtain ⟨r2, h2c, hF⟩ := dx_b1_some hF
    refine dx_cPi S [.int p1, .int (0 : Int32), .int (30 : Int32)] (mo_m_in l p1 (0 : Int32) (30 : Int32) _ h2c) (va_cwS 3 hts (lw_S q1711 q1712 q83 q1713) rfl rfl rfl mo_d_in ⟨Nat.le_of_ble_eq_true rfl, Nat.le_of_ble_eq_true rfl⟩) rfl rfl hl.1 (Nat.le_of_ble_eq_true rfl) dX6_date_12 ⟨Nat.zero_le _, Nat.zero_le _⟩ ?_
    refine lv_if_ne (tgt := 21) hx hb dX6_date_15 (by decide) (fun hc => ?_) (fun hc => ?_)
    · replace hF := dx_ib_t (dx_bI_n hc) hF
      refine lv_bipush (v := 22) hx hb dX6_date_21 (by decide) ?_
      refine lv_iconst (v := 3) hx hb dX6_date_23 (by decide) ?_
      refine lv_iload_n hx hb dX6_date_24 rfl (lv_at hl 1 rfl) ?_
      refine lv_imul hx hb dX6_date_25 ?_
      refine lv_iadd hx hb dX6_date_26 ?_
      refine lv_iconst (v := 2) hx hb dX6_date_27 (by decide) ?_
      refine lv_iadd hx hb dX6_date_28 ?_
      refine lv_istore_n (lv' := [(3, .int (((22 : Int32) + ((3 : Int32) * p0)) + (2 : Int32))), (0, .ref h), (1, .int p0), (2, .int p1)]) hx hb dX6_date_29 rfl hl (by decide) rfl (fun ls hl => ?_)
      refine lv_aload_n hx hb dX6_date_30 rfl (lv_at hl 1 rfl) ?_
      refine mo_get S V 13 (by decide) rfl q1628 rfl dX6_date_31 ?_
      refine lv_iload_n hx hb dX6_date_34 rfl (lv_at hl 0 rfl) ?_
      obtain ⟨hg, hF⟩ := dx_gd_some hF
      refine mo_ld S V 5 (by decide) (dx_inb_in hg) dX6_date_35 ?_
      refine lv_iload_n hx hb dX6_date_36 rfl (lv_at hl 3 rfl) ?_
      refine lv_icmp_ne (tgt := 45) hx hb dX6_date_37 (by decide) (fun hc => ?_) (fun hc => ?_)
      · replace hF := (if_neg hc).symm.trans hF
        refine lv_aload_n hx hb dX6_date_45 rfl (lv_at hl 1 rfl) ?_
        refine lv_iload_n hx hb dX6_date_46 rfl (lv_at hl 0 rfl) ?_
        refine lv_iload_n hx hb dX6_date_47 rfl (lv_at hl 3 rfl) ?_
        obtain ⟨r3, σ3, h3c, hF⟩ := dx_b2_some hF
        refine mo_cVi S V [.int (((22 : Int32) + ((3 : Int32) * p0)) + (2 : Int32)), .int p1] (mo_m_becomes l D di dz h ad A  (((22 : Int32) + ((3 : Int32) * p0)) + (2 : Int32)) p1 σ0 _ _ h3c) (cwV 2 hts (lw_V q1836 q1838 qs54 q83 q1839) rfl rfl rfl mo_d_becomes ⟨Nat.le_of_ble_eq_true rfl, Nat.le_of_ble_eq_true rfl⟩) rfl rfl hl.1 (Nat.le_of_ble_eq_true rfl) dX6_date_48 (fun _ _ V => ?_)
        obtain ⟨hF1, hF2⟩ := dx_r2 hF
        subst hF1
        subst hF2
        exact mo_ri S V hr hlocks rfl dX6_date_51
      · replace hF := (if_pos hc).symm.trans hF
        refine lv_ldc hx hb hown (hts _ q1835) dX6_date_40 ?_
        refine lv_goto (tgt := 51) hx hb dX6_date_42 (by decide) ?_
        obtain ⟨hF1, hF2⟩ := dx_r2 hF
        subst hF1
        subst hF2
        exact mo_ri S V hr hlocks rfl dX6_date_51
    · replace hF := dx_ib_f (dx_bI_0 hc) hF
      refine lv_ldc hx hb hown (hts _ q1714) dX6_date_18 ?_
      obtain ⟨hF1, hF2⟩ := dx_r2 hF
      subst hF1
      subst hF2
      exact mo_ri S V hr hlocks rfl dX6_date_20
theorem mo_d_ill : yX6_ill.cls = RX6 ∧ yX6_ill.cls ≠ "java/lang/invoke/MethodHandle" ∧ yX6_ill.cls ≠ "java/lang/invoke/VarHandle" ∧ (parseMethodDescriptor yX6_ill.desc).map (fun d => d.parameters.length) = some 2 := by decide +kernel
set_option maxHeartbeats 4000000 in
set_option maxRecDepth 100000 in
theorem mo_m_ill (l : Launch) (D : va_G) (di dz : ClassId) (h : Nat) (ad : Nat → Nat) (A : Nat → Prop)  (p0 : Int32) (p1 : Int32) (σ0 : mo_S) (r : Int32) (σ' : mo_S) (hF : mo_ill σ0 p0 p1 = some (r, σ')) : mo_Ci l yX6_ill cX6_ill 4 .int ({ frames := 3, cells := 0, slots := 0, locals := 68 }) D di dz h ad A [.ref h, .int p0, .int p1] σ0 r σ' := by
  refine dx_in RX6 rfl (by decide) (Nat.le_of_ble_eq_true rfl) ?_
  intro p e s m below meth c ls S hr hlocks hv hl
  have hx := S.1
  have hb := S.2.1
  have hown := S.2.2.2.1
  have hts := S.2.2.2.2
  obtain ⟨hK, hP, hD⟩ := hv
  have V : mo_V D di dz h ad A s.heap σ0 s s.heap [] := ⟨hK, hP, hD, va_S.rf⟩
  replace hl : lv_has ls 4 [(0, .ref h), (1, .int p0), (2, .int p1)] := hl
  unfold mo_ill at hF
  refine lv_aload_n hx hb dX6_ill_0 rfl (lv_at hl 0 rfl) ?_
  refine lv_iload_n hx hb dX6_ill_1 rfl (lv_at hl 1 rfl) ?_
  obtain ⟨r1, h1c, hF⟩ := dx_b1_some hF
  refine mo_cVi S V [.int p0] (mo_m_isPerson l D di dz h ad A  p0 σ0 _ h1c) (cwV 1 hts (lw_V q1815 q1817 qs51 q83 q1818) rfl rfl rfl mo_d_isPerson ⟨Nat.le_of_ble_eq_true rfl, Nat.le_of_ble_eq_true rfl⟩) rfl rfl hl.1 (Nat.le_of_ble_eq_true rfl) dX6_ill_2 (fun _ _ V => ?_)
  refine lv_if_eq (tgt := 18) hx hb dX6_ill_5 (by decide) (fun hc => ?_) (fun hc => ?_)
  · replace hF := dx_ib_f (dx_bI_0 hc) hF
    refine lv_ldc hx hb hown (hts _ q1714) dX6_ill_18 ?_
    obtain ⟨hF1, hF2⟩ := dx_r2 hF
    subst hF1
    subst hF2
    exact mo_ri S V hr hlocks rfl dX6_ill_20
  · replace hF := dx_ib_t (dx_bI_n hc) hF
    refine lv_iload_n hx hb dX6_ill_8 rfl (lv_at hl 2 rfl) ?_
    refine lv_iconst (v := (-1)) hx hb dX6_ill_9 (by decide) ?_
    refine lv_bipush (v := 30) hx hb dX6_ill_10 (by decide) ?_
    obtain ⟨r2, h2c, hF⟩ := dx_b1_some hF
    refine dx_cPi S [.int p1, .int (-1 : Int32), .int (30 : Int32)] (mo_m_in l p1 (-1 : Int32) (30 : Int32) _ h2c) (va_cwS 3 hts (lw_S q1711 q1712 q83 q1713) rfl rfl rfl mo_d_in ⟨Nat.le_of_ble_eq_true rfl, Nat.le_of_ble_eq_true rfl⟩) rfl rfl hl.1 (Nat.le_of_ble_eq_true rfl) dX6_ill_12 ⟨Nat.zero_le _, Nat.zero_le _⟩ ?_
    refine lv_if_ne (tgt := 21) hx hb dX6_ill_15 (by decide) (fun hc => ?_) (fun hc => ?_)
    · replace hF := dx_ib_t (dx_bI_n hc) hF
      refine lv_iconst (v := 4) hx hb dX6_ill_21 (by decide) ?_
      refine lv_iconst (v := 2) hx hb dX6_ill_22 (by decide) ?_
      refine lv_iload_n hx hb dX6_ill_23 rfl (lv_at hl 1 rfl) ?_
      refine lv_imul hx hb dX6_ill_24 ?_
      refine lv_iadd hx hb dX6_ill_25 ?_
      refine lv_iconst (v := 1) hx hb dX6_ill_26 (by decide) ?_
      refine lv_iadd hx hb dX6_ill_27 ?_
      refine lv_istore_n (lv' := [(3, .int (((4 : Int32) + ((2 : Int32) * p0)) + (1 : Int32))), (0, .ref h), (1, .int p0), (2, .int p1)]) hx hb dX6_ill_28 rfl hl (by decide) rfl (fun ls hl => ?_)
      refine lv_aload_n hx hb dX6_ill_29 rfl (lv_at hl 1 rfl) ?_
      refine mo_get S V 13 (by decide) rfl q1628 rfl dX6_ill_30 ?_
      refine lv_iload_n hx hb dX6_ill_33 rfl (lv_at hl 0 rfl) ?_
      obtain ⟨hg, hF⟩ := dx_gd_some hF
      refine mo_ld S V 5 (by decide) (dx_inb_in hg) dX6_ill_34 ?_
      refine lv_iload_n hx hb dX6_ill_35 rfl (lv_at hl 3 rfl) ?_
      refine lv_icmp_ne (tgt := 44) hx hb dX6_ill_36 (by decide) (fun hc => ?_) (fun hc => ?_)
      · replace hF := (if_neg hc).symm.trans hF
        refine lv_aload_n hx hb dX6_ill_44 rfl (lv_at hl 1 rfl) ?_
        refine lv_iload_n hx hb dX6_ill_45 rfl (lv_at hl 0 rfl) ?_
        refine lv_iload_n hx hb dX6_ill_46 rfl (lv_at hl 3 rfl) ?_
        obtain ⟨r3, σ3, h3c, hF⟩ := dx_b2_some hF
        refine mo_cVi S V [.int (((4 : Int32) + ((2 : Int32) * p0)) + (1 : Int32)), .int p1] (mo_m_becomes l D di dz h ad A  (((4 : Int32) + ((2 : Int32) * p0)) + (1 : Int32)) p1 σ0 _ _ h3c) (cwV 2 hts (lw_V q1836 q1838 qs54 q83 q1839) rfl rfl rfl mo_d_becomes ⟨Nat.le_of_ble_eq_true rfl, Nat.le_of_ble_eq_true rfl⟩) rfl rfl hl.1 (Nat.le_of_ble_eq_true rfl) dX6_ill_47 (fun _ _ V => ?_)
        obtain ⟨hF1, hF2⟩ := dx_r2 hF
        subst hF1
        subst hF2
        exact mo_ri S V hr hlocks rfl dX6_ill_50
      · replace hF := (if_pos hc).symm.trans hF
        refine lv_ldc hx hb hown (hts _ q1835) dX6_ill_39 ?_
        refine lv_goto (tgt := 50) hx hb dX6_ill_41 (by decide) ?_
        obtain ⟨hF1, hF2⟩ := dx_r2 hF
        subst hF1
        subst hF2
        exact mo_ri S V hr hlocks rfl dX6_ill_50
    · replace hF := dx_ib_f (dx_bI_0 hc) hF
      refine lv_ldc hx hb hown (hts _ q1714) dX6_ill_18 ?_
      obtain ⟨hF1, hF2⟩ := dx_r2 hF
      subst hF1
      subst hF2
      exact mo_ri S V hr hlocks rfl dX6_ill_20
