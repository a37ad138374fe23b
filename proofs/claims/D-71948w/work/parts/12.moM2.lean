/-! DatedContactsModel read back and walked (printed by gen/mo.py) -/
theorem mo_d_isNet : yX6_isNet.cls = RX6 ∧ yX6_isNet.cls ≠ "java/lang/invoke/MethodHandle" ∧ yX6_isNet.cls ≠ "java/lang/invoke/VarHandle" ∧ (parseMethodDescriptor yX6_isNet.desc).map (fun d => d.parameters.length) = some 0 := by decide +kernel
set_option maxHeartbeats 4000000 in
set_option maxRecDepth 100000 in
theorem mo_m_isNet (l : Launch) (D : va_G) (di dz : ClassId) (h : Nat) (ad : Nat → Nat) (A : Nat → Prop)   (σ0 : mo_S) (r : Bool) (hF : mo_isNet σ0 = some r) : mo_Ci l yX6_isNet cX6_isNet 1 .boolean ({ frames := 0, cells := 0, slots := 0, locals := 0 }) D di dz h ad A [.ref h] σ0 (dx_bI r) σ0 := by
  refine dx_in RX6 rfl (by decide) (Nat.le_of_ble_eq_true rfl) ?_
  intro p e s m below meth c ls S hr hlocks hv hl
  have hx := S.1
  have hb := S.2.1
  have hown := S.2.2.2.1
  have hts := S.2.2.2.2
  obtain ⟨hK, hP, hD⟩ := hv
  have V : mo_V D di dz h ad A s.heap σ0 s s.heap [] := ⟨hK, hP, hD, va_S.rf⟩
  replace hl : lv_has ls 1 [(0, .ref h)] := hl
  unfold mo_isNet at hF
  refine lv_aload_n hx hb dX6_isNet_0 rfl (lv_at hl 0 rfl) ?_
  refine mo_get S V 13 (by decide) rfl q1628 rfl dX6_isNet_1 ?_
  refine lv_iconst (v := 0) hx hb dX6_isNet_4 (by decide) ?_
  refine mo_ld S V 5 (by decide) (dx_inb_in rfl) dX6_isNet_5 ?_
  refine lv_if_le (tgt := 13) hx hb dX6_isNet_6 (by decide) (fun hc => ?_) (fun hc => ?_)
  · replace hF := (if_pos hc).symm.trans hF
    refine lv_iconst (v := 0) hx hb dX6_isNet_13 (by decide) ?_
    replace hF := Option.some.inj hF
    subst hF
    exact mo_ri S V hr hlocks rfl dX6_isNet_14
  · replace hF := (if_neg hc).symm.trans hF
    refine lv_iconst (v := 1) hx hb dX6_isNet_9 (by decide) ?_
    refine lv_goto (tgt := 14) hx hb dX6_isNet_10 (by decide) ?_
    replace hF := Option.some.inj hF
    subst hF
    exact mo_ri S V hr hlocks rfl dX6_isNet_14
theorem mo_d_window : yX6_window.cls = RX6 ∧ yX6_window.cls ≠ "java/lang/invoke/MethodHandle" ∧ yX6_window.cls ≠ "java/lang/invoke/VarHandle" ∧ (parseMethodDescriptor yX6_window.desc).map (fun d => d.parameters.length) = some 2 := by decide +kernel
set_option maxHeartbeats 4000000 in
set_option maxRecDepth 100000 in
theorem mo_m_window (l : Launch) (D : va_G) (di dz : ClassId) (h : Nat) (ad : Nat → Nat) (A : Nat → Prop)  (p0 : Int32) (p1 : Int32) (σ0 : mo_S) (r : Int32) (σ' : mo_S) (hF : mo_window σ0 p0 p1 = some (r, σ')) : mo_Ci l yX6_window cX6_window 4 .int ({ frames := 3, cells := 0, slots := 0, locals := 68 }) D di dz h ad A [.ref h, .int p0, .int p1] σ0 r σ' := by
  refine dx_in RX6 rfl (by decide) (Nat.le_of_ble_eq_true rfl) ?_
  intro p e s m below meth c ls S hr hlocks hv hl
  have hx := S.1
  have hb := S.2.1
  have hown := S.2.2.2.1
  have hts := S.2.2.2.2
  obtain ⟨hK, hP, hD⟩ := hv
  have V : mo_V D di dz h ad A s.heap σ0 s s.heap [] := ⟨hK, hP, hD, va_S.rf⟩
  replace hl : lv_has ls 4 [(0, .ref h), (1, .int p0), (2, .int p1)] := hl
  unfold mo_window at hF
  have hJ56 : ∀ (σ : mo_S) (v1 : Int32) (v2 : Int32) (H : Heap) (locs : List Loc) (ls : Array Slot), mo_window_J56 σ v1 v2 = some (r, σ') → mo_V D di dz h ad A s.heap σ s H locs → lv_has ls 4 [(0, .ref h), (1, .int v1), (2, .int v2)] → W p l e ({ frames := 3, cells := 0, slots := 0, locals := 68 }) s m ([.ref h, .int p0, .int p1] : List Value).toArray below meth c H locs 0 0 (MQ below (mo_Qi D di dz h ad A r σ') ([.ref h, .int p0, .int p1] : List Value).toArray s 0 0 A) (F0 m 56 ls []) := by
    intro σ v1 v2 H locs ls hF V hl
    unfold mo_window_J56 at hF
    refine lv_aload_n hx hb dX6_window_56 rfl (lv_at hl 0 rfl) ?_
    refine lv_iconst (v := 3) hx hb dX6_window_57 (by decide) ?_
    refine lv_iload_n hx hb dX6_window_58 rfl (lv_at hl 2 rfl) ?_
    obtain ⟨r4, σ4, h4c, hF⟩ := dx_b2_some hF
    refine mo_cVi S V [.int (3 : Int32), .int v2] (mo_m_becomes l D di dz h ad A  (3 : Int32) v2 σ _ _ h4c) (cwV 2 hts (lw_V q1836 q1838 qs54 q83 q1839) rfl rfl rfl mo_d_becomes ⟨Nat.le_of_ble_eq_true rfl, Nat.le_of_ble_eq_true rfl⟩) rfl rfl hl.1 (Nat.le_of_ble_eq_true rfl) dX6_window_59 (fun _ _ V => ?_)
    refine lv_istore_n (lv' := [(3, .int r4), (0, .ref h), (1, .int v1), (2, .int v2)]) hx hb dX6_window_62 rfl hl (by decide) rfl (fun ls hl => ?_)
    refine lv_aload_n hx hb dX6_window_63 rfl (lv_at hl 1 rfl) ?_
    refine mo_get S V 13 (by decide) rfl q1628 rfl dX6_window_64 ?_
    refine lv_iconst (v := 2) hx hb dX6_window_67 (by decide) ?_
    refine lv_iload_n hx hb dX6_window_68 rfl (lv_at hl 2 rfl) ?_
    refine mo_st S V 5 (by decide) (dx_inb_in rfl) dX6_window_69 (fun _ _ V => ?_)
    refine lv_iload_n hx hb dX6_window_70 rfl (lv_at hl 0 rfl) ?_
    obtain ⟨hF1, hF2⟩ := dx_r2 hF
    subst hF1
    subst hF2
    exact mo_ri S V hr hlocks rfl dX6_window_71
  refine lv_aload_n hx hb dX6_window_0 rfl (lv_at hl 0 rfl) ?_
  obtain ⟨r1, h1c, hF⟩ := dx_b1_some hF
  refine mo_cVi S V [] (mo_m_isNet l D di dz h ad A   σ0 _ h1c) (cwV 0 hts (lw_V q1848 q1850 qs55 q83 q1851) rfl rfl rfl mo_d_isNet ⟨Nat.le_of_ble_eq_true rfl, Nat.le_of_ble_eq_true rfl⟩) rfl rfl hl.1 (Nat.le_of_ble_eq_true rfl) dX6_window_1 (fun _ _ V => ?_)
  refine lv_if_ne (tgt := 10) hx hb dX6_window_4 (by decide) (fun hc => ?_) (fun hc => ?_)
  · replace hF := dx_ib_t (dx_bI_n hc) hF
    refine lv_iload_n hx hb dX6_window_10 rfl (lv_at hl 1 rfl) ?_
    refine lv_iconst (v := 1) hx hb dX6_window_11 (by decide) ?_
    refine lv_bipush (v := 9) hx hb dX6_window_12 (by decide) ?_
    obtain ⟨r2, h2c, hF⟩ := dx_b1_some hF
    refine dx_cPi S [.int p0, .int (1 : Int32), .int (9 : Int32)] (mo_m_in l p0 (1 : Int32) (9 : Int32) _ h2c) (va_cwS 3 hts (lw_S q1711 q1712 q83 q1713) rfl rfl rfl mo_d_in ⟨Nat.le_of_ble_eq_true rfl, Nat.le_of_ble_eq_true rfl⟩) rfl rfl hl.1 (Nat.le_of_ble_eq_true rfl) dX6_window_14 ⟨Nat.zero_le _, Nat.zero_le _⟩ ?_
    refine lv_if_eq (tgt := 30) hx hb dX6_window_17 (by decide) (fun hc => ?_) (fun hc => ?_)
    · replace hF := dx_ib_f (dx_bI_0 hc) hF
      refine lv_ldc hx hb hown (hts _ q1714) dX6_window_30 ?_
      obtain ⟨hF1, hF2⟩ := dx_r2 hF
      subst hF1
      subst hF2
      exact mo_ri S V hr hlocks rfl dX6_window_32
    · replace hF := dx_ib_t (dx_bI_n hc) hF
      refine lv_iload_n hx hb dX6_window_20 rfl (lv_at hl 2 rfl) ?_
      refine lv_iload_n hx hb dX6_window_21 rfl (lv_at hl 1 rfl) ?_
      refine lv_bipush (v := 20) hx hb dX6_window_22 (by decide) ?_
      obtain ⟨r3, h3c, hF⟩ := dx_b1_some hF
      refine dx_cPi S [.int p1, .int p0, .int (20 : Int32)] (mo_m_in l p1 p0 (20 : Int32) _ h3c) (va_cwS 3 hts (lw_S q1711 q1712 q83 q1713) rfl rfl rfl mo_d_in ⟨Nat.le_of_ble_eq_true rfl, Nat.le_of_ble_eq_true rfl⟩) rfl rfl hl.1 (Nat.le_of_ble_eq_true rfl) dX6_window_24 ⟨Nat.zero_le _, Nat.zero_le _⟩ ?_
      refine lv_if_ne (tgt := 33) hx hb dX6_window_27 (by decide) (fun hc => ?_) (fun hc => ?_)
      · replace hF := dx_ib_t (dx_bI_n hc) hF
        refine lv_aload_n hx hb dX6_window_33 rfl (lv_at hl 0 rfl) ?_
        refine mo_get S V 13 (by decide) rfl q1628 rfl dX6_window_34 ?_
        refine lv_iconst (v := 2) hx hb dX6_window_37 (by decide) ?_
        refine mo_ld S V 5 (by decide) (dx_inb_in rfl) dX6_window_38 ?_
        refine lv_iload_n hx hb dX6_window_39 rfl (lv_at hl 1 rfl) ?_
        refine lv_icmp_ne (tgt := 56) hx hb dX6_window_40 (by decide) (fun hc => ?_) (fun hc => ?_)
        · replace hF := (if_neg hc).symm.trans hF
          exact hJ56 σ0 p0 p1 _ _ _ hF V (lv_sub hl [0, 1, 2] rfl)
        · replace hF := (if_pos hc).symm.trans hF
          refine lv_aload_n hx hb dX6_window_43 rfl (lv_at hl 0 rfl) ?_
          refine mo_get S V 13 (by decide) rfl q1628 rfl dX6_window_44 ?_
          refine lv_iconst (v := 3) hx hb dX6_window_47 (by decide) ?_
          refine mo_ld S V 5 (by decide) (dx_inb_in rfl) dX6_window_48 ?_
          refine lv_iload_n hx hb dX6_window_49 rfl (lv_at hl 2 rfl) ?_
          refine lv_icmp_ne (tgt := 56) hx hb dX6_window_50 (by decide) (fun hc => ?_) (fun hc => ?_)
          · replace hF := (if_neg hc).symm.trans hF
            exact hJ56 σ0 p0 p1 _ _ _ hF V (lv_sub hl [0, 1, 2] rfl)
          · replace hF := (if_pos hc).symm.trans hF
            refine lv_ldc hx hb hown (hts _ q1835) dX6_window_53 ?_
            obtain ⟨hF1, hF2⟩ := dx_r2 hF
            subst hF1
            subst hF2
            exact mo_ri S V hr hlocks rfl dX6_window_55
      · replace hF := dx_ib_f (dx_bI_0 hc) hF
        refine lv_ldc hx hb hown (hts _ q1714) dX6_window_30 ?_
        obtain ⟨hF1, hF2⟩ := dx_r2 hF
        subst hF1
        subst hF2
        exact mo_ri S V hr hlocks rfl dX6_window_32
  · replace hF := dx_ib_f (dx_bI_0 hc) hF
    refine lv_ldc hx hb hown (hts _ q1835) dX6_window_7 ?_
    obtain ⟨hF1, hF2⟩ := dx_r2 hF
    subst hF1
    subst hF2
    exact mo_ri S V hr hlocks rfl dX6_window_9
theorem mo_d_become : yX6_become.cls = RX6 ∧ yX6_become.cls ≠ "java/lang/invoke/MethodHandle" ∧ yX6_become.cls ≠ "java/lang/invoke/VarHandle" ∧ (parseMethodDescriptor yX6_become.desc).map (fun d => d.parameters.length) = some 2 := by decide +kernel
set_option maxHeartbeats 4000000 in
set_option maxRecDepth 100000 in
theorem mo_m_become (l : Launch) (D : va_G) (di dz : ClassId) (h : Nat) (ad : Nat → Nat) (A : Nat → Prop)  (p0 : Int32) (p1 : Int32) (σ0 : mo_S) (r : Int32) (σ' : mo_S) (hF : mo_become σ0 p0 p1 = some (r, σ')) : mo_Ci l yX6_become cX6_become 3 .int ({ frames := 3, cells := 0, slots := 0, locals := 68 }) D di dz h ad A [.ref h, .int p0, .int p1] σ0 r σ' := by
  refine dx_in RX6 rfl (by decide) (Nat.le_of_ble_eq_true rfl) ?_
  intro p e s m below meth c ls S hr hlocks hv hl
  have hx := S.1
  have hb := S.2.1
  have hown := S.2.2.2.1
  have hts := S.2.2.2.2
  obtain ⟨hK, hP, hD⟩ := hv
  have V : mo_V D di dz h ad A s.heap σ0 s s.heap [] := ⟨hK, hP, hD, va_S.rf⟩
  replace hl : lv_has ls 3 [(0, .ref h), (1, .int p0), (2, .int p1)] := hl
  unfold mo_become at hF
  refine lv_aload_n hx hb dX6_become_0 rfl (lv_at hl 0 rfl) ?_
  refine lv_iload_n hx hb dX6_become_1 rfl (lv_at hl 1 rfl) ?_
  obtain ⟨r1, h1c, hF⟩ := dx_b1_some hF
  refine mo_cVi S V [.int p0] (mo_m_isPerson l D di dz h ad A  p0 σ0 _ h1c) (cwV 1 hts (lw_V q1815 q1817 qs51 q83 q1818) rfl rfl rfl mo_d_isPerson ⟨Nat.le_of_ble_eq_true rfl, Nat.le_of_ble_eq_true rfl⟩) rfl rfl hl.1 (Nat.le_of_ble_eq_true rfl) dX6_become_2 (fun _ _ V => ?_)
  refine lv_if_eq (tgt := 17) hx hb dX6_become_5 (by decide) (fun hc => ?_) (fun hc => ?_)
  · replace hF := dx_ib_f (dx_bI_0 hc) hF
    refine lv_ldc hx hb hown (hts _ q1714) dX6_become_17 ?_
    obtain ⟨hF1, hF2⟩ := dx_r2 hF
    subst hF1
    subst hF2
    exact mo_ri S V hr hlocks rfl dX6_become_19
  · replace hF := dx_ib_t (dx_bI_n hc) hF
    refine lv_iload_n hx hb dX6_become_8 rfl (lv_at hl 2 rfl) ?_
    refine lv_iconst (v := 1) hx hb dX6_become_9 (by decide) ?_
    refine lv_iconst (v := 5) hx hb dX6_become_10 (by decide) ?_
    obtain ⟨r2, h2c, hF⟩ := dx_b1_some hF
    refine dx_cPi S [.int p1, .int (1 : Int32), .int (5 : Int32)] (mo_m_in l p1 (1 : Int32) (5 : Int32) _ h2c) (va_cwS 3 hts (lw_S q1711 q1712 q83 q1713) rfl rfl rfl mo_d_in ⟨Nat.le_of_ble_eq_true rfl, Nat.le_of_ble_eq_true rfl⟩) rfl rfl hl.1 (Nat.le_of_ble_eq_true rfl) dX6_become_11 ⟨Nat.zero_le _, Nat.zero_le _⟩ ?_
    refine lv_if_ne (tgt := 20) hx hb dX6_become_14 (by decide) (fun hc => ?_) (fun hc => ?_)
    · replace hF := dx_ib_t (dx_bI_n hc) hF
      refine lv_aload_n hx hb dX6_become_20 rfl (lv_at hl 0 rfl) ?_
      refine mo_get S V 13 (by decide) rfl q1628 rfl dX6_become_21 ?_
      refine lv_iconst (v := 4) hx hb dX6_become_24 (by decide) ?_
      refine lv_iconst (v := 2) hx hb dX6_become_25 (by decide) ?_
      refine lv_iload_n hx hb dX6_become_26 rfl (lv_at hl 1 rfl) ?_
      refine lv_imul hx hb dX6_become_27 ?_
      refine lv_iadd hx hb dX6_become_28 ?_
      obtain ⟨hg, hF⟩ := dx_gd_some hF
      refine mo_ld S V 5 (by decide) (dx_inb_in hg) dX6_become_29 ?_
      refine lv_iload_n hx hb dX6_become_30 rfl (lv_at hl 2 rfl) ?_
      refine lv_icmp_ne (tgt := 39) hx hb dX6_become_31 (by decide) (fun hc => ?_) (fun hc => ?_)
      · replace hF := (if_neg hc).symm.trans hF
        refine lv_aload_n hx hb dX6_become_39 rfl (lv_at hl 0 rfl) ?_
        refine lv_iconst (v := 4) hx hb dX6_become_40 (by decide) ?_
        refine lv_iconst (v := 2) hx hb dX6_become_41 (by decide) ?_
        refine lv_iload_n hx hb dX6_become_42 rfl (lv_at hl 1 rfl) ?_
        refine lv_imul hx hb dX6_become_43 ?_
        refine lv_iadd hx hb dX6_become_44 ?_
        refine lv_iload_n hx hb dX6_become_45 rfl (lv_at hl 2 rfl) ?_
        obtain ⟨r3, σ3, h3c, hF⟩ := dx_b2_some hF
        refine mo_cVi S V [.int ((4 : Int32) + ((2 : Int32) * p0)), .int p1] (mo_m_becomes l D di dz h ad A  ((4 : Int32) + ((2 : Int32) * p0)) p1 σ0 _ _ h3c) (cwV 2 hts (lw_V q1836 q1838 qs54 q83 q1839) rfl rfl rfl mo_d_becomes ⟨Nat.le_of_ble_eq_true rfl, Nat.le_of_ble_eq_true rfl⟩) rfl rfl hl.1 (Nat.le_of_ble_eq_true rfl) dX6_become_46 (fun _ _ V => ?_)
        obtain ⟨hF1, hF2⟩ := dx_r2 hF
        subst hF1
        subst hF2
        exact mo_ri S V hr hlocks rfl dX6_become_49
      · replace hF := (if_pos hc).symm.trans hF
        refine lv_ldc hx hb hown (hts _ q1835) dX6_become_34 ?_
        refine lv_goto (tgt := 49) hx hb dX6_become_36 (by decide) ?_
        obtain ⟨hF1, hF2⟩ := dx_r2 hF
        subst hF1
        subst hF2
        exact mo_ri S V hr hlocks rfl dX6_become_49
    · replace hF := dx_ib_f (dx_bI_0 hc) hF
      refine lv_ldc hx hb hown (hts _ q1714) dX6_become_17 ?_
      obtain ⟨hF1, hF2⟩ := dx_r2 hF
      subst hF1
      subst hF2
      exact mo_ri S V hr hlocks rfl dX6_become_19
theorem mo_d_undo : yX6_undo.cls = RX6 ∧ yX6_undo.cls ≠ "java/lang/invoke/MethodHandle" ∧ yX6_undo.cls ≠ "java/lang/invoke/VarHandle" ∧ (parseMethodDescriptor yX6_undo.desc).map (fun d => d.parameters.length) = some 0 := by decide +kernel
set_option maxHeartbeats 4000000 in
set_option maxRecDepth 100000 in
theorem mo_m_undo (l : Launch) (D : va_G) (di dz : ClassId) (h : Nat) (ad : Nat → Nat) (A : Nat → Prop)   (σ0 : mo_S) (r : Int32) (σ' : mo_S) (hF : mo_undo σ0 = some (r, σ')) : mo_Ci l yX6_undo cX6_undo 1 .int ({ frames := 1, cells := 0, slots := 0, locals := 24 }) D di dz h ad A [.ref h] σ0 r σ' := by
  refine dx_in RX6 rfl (by decide) (Nat.le_of_ble_eq_true rfl) ?_
  intro p e s m below meth c ls S hr hlocks hv hl
  have hx := S.1
  have hb := S.2.1
  have hown := S.2.2.2.1
  have hts := S.2.2.2.2
  obtain ⟨hK, hP, hD⟩ := hv
  have V : mo_V D di dz h ad A s.heap σ0 s s.heap [] := ⟨hK, hP, hD, va_S.rf⟩
  replace hl : lv_has ls 1 [(0, .ref h)] := hl
  unfold mo_undo at hF
  refine lv_aload_n hx hb dX6_undo_0 rfl (lv_at hl 0 rfl) ?_
  refine mo_get S V 17 (by decide) rfl q1632 rfl dX6_undo_1 ?_
  refine lv_if_ne (tgt := 10) hx hb dX6_undo_4 (by decide) (fun hc => ?_) (fun hc => ?_)
  · replace hF := (if_neg hc).symm.trans hF
    refine lv_aload_n hx hb dX6_undo_10 rfl (lv_at hl 0 rfl) ?_
    refine lv_dup hx hb dX6_undo_11 rfl ?_
    refine mo_get S V 17 (by decide) rfl q1632 rfl dX6_undo_12 ?_
    refine lv_iconst (v := 1) hx hb dX6_undo_15 (by decide) ?_
    refine lv_isub hx hb dX6_undo_16 ?_
    refine mo_put S V 17 8 (by decide) rfl q1632 rfl rfl rfl dX6_undo_17 (fun _ _ V => ?_)
    refine lv_aload_n hx hb dX6_undo_20 rfl (lv_at hl 0 rfl) ?_
    refine mo_get S V 16 (by decide) rfl q1631 rfl dX6_undo_21 ?_
    refine lv_bipush (v := 52) hx hb dX6_undo_24 (by decide) ?_
    refine lv_aload_n hx hb dX6_undo_26 rfl (lv_at hl 0 rfl) ?_
    refine mo_get S V 17 (by decide) rfl q1632 rfl dX6_undo_27 ?_
    refine lv_imul hx hb dX6_undo_30 ?_
    refine lv_aload_n hx hb dX6_undo_31 rfl (lv_at hl 0 rfl) ?_
    refine mo_get S V 13 (by decide) rfl q1628 rfl dX6_undo_32 ?_
    refine lv_iconst (v := 0) hx hb dX6_undo_35 (by decide) ?_
    obtain ⟨σ1, h1c, hF⟩ := dx_b1_some hF
    refine mo_cSv S V [.ref (ad 8), .int ((52 : Int32) * ((mo_I σ0 8 ((σ0.1 8) - (1 : Int32))).1 8)), .ref (ad 5), .int (0 : Int32)] (mo_m_copies l D di dz h ad A 8 (by decide) 5 (by decide) ((52 : Int32) * ((mo_I σ0 8 ((σ0.1 8) - (1 : Int32))).1 8)) (0 : Int32) (mo_I σ0 8 ((σ0.1 8) - (1 : Int32))) _ h1c) (va_cwS 4 hts (lw_S q1804 q1805 q83 q1806) rfl rfl rfl mo_d_copies ⟨Nat.le_of_ble_eq_true rfl, Nat.le_of_ble_eq_true rfl⟩) rfl rfl hl.1 (Nat.le_of_ble_eq_true rfl) dX6_undo_36 (fun _ _ V => ?_)
    refine lv_aload_n hx hb dX6_undo_39 rfl (lv_at hl 0 rfl) ?_
    refine mo_get S V 17 (by decide) rfl q1632 rfl dX6_undo_40 ?_
    obtain ⟨hF1, hF2⟩ := dx_r2 hF
    subst hF1
    subst hF2
    exact mo_ri S V hr hlocks rfl dX6_undo_43
  · replace hF := (if_pos hc).symm.trans hF
    refine lv_ldc hx hb hown (hts _ q1835) dX6_undo_7 ?_
    obtain ⟨hF1, hF2⟩ := dx_r2 hF
    subst hF1
    subst hF2
    exact mo_ri S V hr hlocks rfl dX6_undo_9
theorem mo_d_windowOf : yX6_windowOf.cls ≠ "java/lang/invoke/MethodHandle" ∧ yX6_windowOf.cls ≠ "java/lang/invoke/VarHandle" ∧ (parseMethodDescriptor yX6_windowOf.desc).map (fun d => d.parameters.length) = some 3 := by decide +kernel
set_option maxHeartbeats 4000000 in
set_option maxRecDepth 100000 in
theorem mo_m_windowOf (l : Launch) (D : va_G) (di dz : ClassId) (h : Nat) (ad : Nat → Nat) (A : Nat → Prop) (k0 : Nat) (hk0 : k0 < 17 ∧ ¬ k0 = 10) (p1 : Int32) (p2 : Int32) (σ0 : mo_S) (r : Int32) (hF : mo_windowOf k0 σ0 p1 p2 = some r) : mo_Ci l yX6_windowOf cX6_windowOf 4 .int ({ frames := 0, cells := 0, slots := 0, locals := 0 }) D di dz h ad A [.ref (ad k0), .int p1, .int p2] σ0 r σ0 := by
  refine dx_in RX6 rfl (by decide) (Nat.le_of_ble_eq_true rfl) ?_
  intro p e s m below meth c ls S hr hlocks hv hl
  have hx := S.1
  have hb := S.2.1
  have hown := S.2.2.2.1
  have hts := S.2.2.2.2
  obtain ⟨hK, hP, hD⟩ := hv
  have V : mo_V D di dz h ad A s.heap σ0 s s.heap [] := ⟨hK, hP, hD, va_S.rf⟩
  replace hl : lv_has ls 4 [(0, .ref (ad k0)), (1, .int p1), (2, .int p2)] := hl
  unfold mo_windowOf at hF
  have hJ70 : ∀ (H : Heap) (locs : List Loc) (ls : Array Slot), mo_windowOf_J70 k0 σ0 = some r → mo_V D di dz h ad A s.heap σ0 s H locs → lv_has ls 4 [(0, .ref (ad k0))] → W p l e ({ frames := 0, cells := 0, slots := 0, locals := 0 }) s m ([.ref (ad k0), .int p1, .int p2] : List Value).toArray below meth c H locs 0 0 (MQ below (mo_Qi D di dz h ad A r σ0) ([.ref (ad k0), .int p1, .int p2] : List Value).toArray s 0 0 A) (F0 m 70 ls []) := by
    intro  H locs ls hF V hl
    unfold mo_windowOf_J70 at hF
    refine lv_aload_n hx hb dX6_windowOf_70 rfl (lv_at hl 0 rfl) ?_
    refine lv_iconst (v := 3) hx hb dX6_windowOf_71 (by decide) ?_
    obtain ⟨hg, hF⟩ := dx_gd_some hF
    refine mo_ld S V k0 hk0 (dx_inb_in hg) dX6_windowOf_72 ?_
    replace hF := Option.some.inj hF
    subst hF
    exact mo_ri S V hr hlocks rfl dX6_windowOf_73
  refine lv_aload_n hx hb dX6_windowOf_0 rfl (lv_at hl 0 rfl) ?_
  refine lv_iconst (v := 4) hx hb dX6_windowOf_1 (by decide) ?_
  refine lv_iconst (v := 2) hx hb dX6_windowOf_2 (by decide) ?_
  refine lv_iload_n hx hb dX6_windowOf_3 rfl (lv_at hl 1 rfl) ?_
  refine lv_imul hx hb dX6_windowOf_4 ?_
  refine lv_iadd hx hb dX6_windowOf_5 ?_
  obtain ⟨hg, hF⟩ := dx_gd_some hF
  refine mo_ld S V k0 hk0 (dx_inb_in hg) dX6_windowOf_6 ?_
  refine lv_istore_n (lv' := [(3, .int (σ0.2 k0 ((4 : Int32) + ((2 : Int32) * p1)).toNatClampNeg)), (0, .ref (ad k0)), (1, .int p1), (2, .int p2)]) hx hb dX6_windowOf_7 rfl hl (by decide) rfl (fun ls hl => ?_)
  refine lv_iload_n hx hb dX6_windowOf_8 rfl (lv_at hl 0 rfl) ?_
  refine lv_iconst (v := 4) hx hb dX6_windowOf_9 (by decide) ?_
  refine lv_icmp_lt (tgt := 16) hx hb dX6_windowOf_10 (by decide) (fun hc => ?_) (fun hc => ?_)
  · replace hF := (if_pos hc).symm.trans hF
    refine lv_iload_n hx hb dX6_windowOf_16 rfl (lv_at hl 3 rfl) ?_
    refine lv_if_ne (tgt := 35) hx hb dX6_windowOf_17 (by decide) (fun hc => ?_) (fun hc => ?_)
    · replace hF := (if_neg hc).symm.trans hF
      refine lv_iload_n hx hb dX6_windowOf_35 rfl (lv_at hl 0 rfl) ?_
      refine lv_iconst (v := 2) hx hb dX6_windowOf_36 (by decide) ?_
      refine lv_icmp_ne (tgt := 48) hx hb dX6_windowOf_37 (by decide) (fun hc => ?_) (fun hc => ?_)
      · replace hF := (if_neg hc).symm.trans hF
        refine lv_iload_n hx hb dX6_windowOf_48 rfl (lv_at hl 0 rfl) ?_
        refine lv_iconst (v := 3) hx hb dX6_windowOf_49 (by decide) ?_
        refine lv_icmp_ne (tgt := 70) hx hb dX6_windowOf_50 (by decide) (fun hc => ?_) (fun hc => ?_)
        · replace hF := (if_neg hc).symm.trans hF
          exact hJ70  _ _ _ hF V (lv_sub hl [1] rfl)
        · replace hF := (if_pos hc).symm.trans hF
          refine lv_aload_n hx hb dX6_windowOf_53 rfl (lv_at hl 1 rfl) ?_
          refine lv_iconst (v := 3) hx hb dX6_windowOf_54 (by decide) ?_
          obtain ⟨hg, hF⟩ := dx_gd_some hF
          refine mo_ld S V k0 hk0 (dx_inb_in hg) dX6_windowOf_55 ?_
          refine lv_aload_n hx hb dX6_windowOf_56 rfl (lv_at hl 1 rfl) ?_
          refine lv_iconst (v := 2) hx hb dX6_windowOf_57 (by decide) ?_
          obtain ⟨hg, hF⟩ := dx_gd_some hF
          refine mo_ld S V k0 hk0 (dx_inb_in hg) dX6_windowOf_58 ?_
          refine lv_icmp_le (tgt := 70) hx hb dX6_windowOf_59 (by decide) (fun hc => ?_) (fun hc => ?_)
          · replace hF := (if_pos hc).symm.trans hF
            exact hJ70  _ _ _ hF V (lv_sub hl [1] rfl)
          · replace hF := (if_neg hc).symm.trans hF
            refine lv_aload_n hx hb dX6_windowOf_62 rfl (lv_at hl 1 rfl) ?_
            refine lv_iconst (v := 3) hx hb dX6_windowOf_63 (by decide) ?_
            obtain ⟨hg, hF⟩ := dx_gd_some hF
            refine mo_ld S V k0 hk0 (dx_inb_in hg) dX6_windowOf_64 ?_
            refine lv_iconst (v := 1) hx hb dX6_windowOf_65 (by decide) ?_
            refine lv_isub hx hb dX6_windowOf_66 ?_
            refine lv_goto (tgt := 73) hx hb dX6_windowOf_67 (by decide) ?_
            replace hF := Option.some.inj hF
            subst hF
            exact mo_ri S V hr hlocks rfl dX6_windowOf_73
      · replace hF := (if_pos hc).symm.trans hF
        refine lv_aload_n hx hb dX6_windowOf_40 rfl (lv_at hl 1 rfl) ?_
        refine lv_iconst (v := 3) hx hb dX6_windowOf_41 (by decide) ?_
        obtain ⟨hg, hF⟩ := dx_gd_some hF
        refine mo_ld S V k0 hk0 (dx_inb_in hg) dX6_windowOf_42 ?_
        refine lv_iconst (v := 1) hx hb dX6_windowOf_43 (by decide) ?_
        refine lv_iadd hx hb dX6_windowOf_44 ?_
        refine lv_goto (tgt := 73) hx hb dX6_windowOf_45 (by decide) ?_
        replace hF := Option.some.inj hF
        subst hF
        exact mo_ri S V hr hlocks rfl dX6_windowOf_73
    · replace hF := (if_pos hc).symm.trans hF
      refine lv_aload_n hx hb dX6_windowOf_20 rfl (lv_at hl 1 rfl) ?_
      refine lv_iconst (v := 2) hx hb dX6_windowOf_21 (by decide) ?_
      obtain ⟨hg, hF⟩ := dx_gd_some hF
      refine mo_ld S V k0 hk0 (dx_inb_in hg) dX6_windowOf_22 ?_
      refine lv_iload_n hx hb dX6_windowOf_23 rfl (lv_at hl 0 rfl) ?_
      refine lv_iconst (v := 2) hx hb dX6_windowOf_24 (by decide) ?_
      refine lv_icmp_ne (tgt := 32) hx hb dX6_windowOf_25 (by decide) (fun hc => ?_) (fun hc => ?_)
      · replace hF := (if_neg hc).symm.trans hF
        refine lv_iconst (v := 0) hx hb dX6_windowOf_32 (by decide) ?_
        refine lv_iadd hx hb dX6_windowOf_33 ?_
        replace hF := Option.some.inj hF
        subst hF
        exact mo_ri S V hr hlocks rfl dX6_windowOf_34
      · replace hF := (if_pos hc).symm.trans hF
        refine lv_iconst (v := 1) hx hb dX6_windowOf_28 (by decide) ?_
        refine lv_goto (tgt := 33) hx hb dX6_windowOf_29 (by decide) ?_
        refine lv_iadd hx hb dX6_windowOf_33 ?_
        replace hF := Option.some.inj hF
        subst hF
        exact mo_ri S V hr hlocks rfl dX6_windowOf_34
  · replace hF := (if_neg hc).symm.trans hF
    refine lv_ldc hx hb hown (hts _ q1614) dX6_windowOf_13 ?_
    replace hF := Option.some.inj hF
    subst hF
    exact mo_ri S V hr hlocks rfl dX6_windowOf_15
theorem mo_d_contactsOf : yX6_contactsOf.cls = RX6 ∧ yX6_contactsOf.cls ≠ "java/lang/invoke/MethodHandle" ∧ yX6_contactsOf.cls ≠ "java/lang/invoke/VarHandle" ∧ (parseMethodDescriptor yX6_contactsOf.desc).map (fun d => d.parameters.length) = some 2 := by decide +kernel
set_option maxHeartbeats 4000000 in
set_option maxRecDepth 100000 in
theorem mo_m_contactsOf (l : Launch) (D : va_G) (di dz : ClassId) (h : Nat) (ad : Nat → Nat) (A : Nat → Prop) (k0 : Nat) (hk0 : k0 < 17 ∧ ¬ k0 = 10) (p1 : Int32) (σ0 : mo_S) (r : Int32) (hF : mo_contactsOf k0 σ0 p1 = some r) : mo_Ci l yX6_contactsOf cX6_contactsOf 5 .int ({ frames := 0, cells := 0, slots := 0, locals := 0 }) D di dz h ad A [.ref h, .ref (ad k0), .int p1] σ0 r σ0 := by
  refine dx_in RX6 rfl (by decide) (Nat.le_of_ble_eq_true rfl) ?_
  intro p e s m below meth c ls S hr hlocks hv hl
  have hx := S.1
  have hb := S.2.1
  have hown := S.2.2.2.1
  have hts := S.2.2.2.2
  obtain ⟨hK, hP, hD⟩ := hv
  have V : mo_V D di dz h ad A s.heap σ0 s s.heap [] := ⟨hK, hP, hD, va_S.rf⟩
  replace hl : lv_has ls 5 [(0, .ref h), (1, .ref (ad k0)), (2, .int p1)] := hl
  unfold mo_contactsOf at hF
  have hL5 : ∀ (v2 : Int32) (n : Nat) (v3 : Int32) (v4 : Int32) (H : Heap) (locs : List Loc) (ls : Array Slot), dx_lp (fun x => mo_contactsOf_L5 k0 σ0 v2 x.1 x.2) n (v3, v4) = some r → mo_V D di dz h ad A s.heap σ0 s H locs → lv_has ls 5 [(1, .ref (ad k0)), (2, .int v2), (3, .int v3), (4, .int v4)] → W p l e ({ frames := 0, cells := 0, slots := 0, locals := 0 }) s m ([.ref h, .ref (ad k0), .int p1] : List Value).toArray below meth c H locs 0 0 (MQ below (mo_Qi D di dz h ad A r σ0) ([.ref h, .ref (ad k0), .int p1] : List Value).toArray s 0 0 A) (F0 m 5 ls []) := by
    intro v2 n
    induction n with
    | zero =>
      intro v3 v4 H locs ls hF V hl
      exact (dx_lp_0 hF).elim
    | succ n ih5 =>
      intro v3 v4 H locs ls hF V hl
      obtain ⟨y5, hF, hz5⟩ := dx_lp_s hF
      replace hF : mo_contactsOf_L5 k0 σ0 v2 v3 v4 = some y5 := hF
      unfold mo_contactsOf_L5 at hF
      have hJ42 : ∀ (v4 : Int32) (t0 : Int32) (H : Heap) (locs : List Loc) (ls : Array Slot), mo_contactsOf_J42 k0 σ0 v2 v4 t0 = some y5 → mo_V D di dz h ad A s.heap σ0 s H locs → lv_has ls 5 [(1, .ref (ad k0)), (2, .int v2), (4, .int v4)] → W p l e ({ frames := 0, cells := 0, slots := 0, locals := 0 }) s m ([.ref h, .ref (ad k0), .int p1] : List Value).toArray below meth c H locs 0 0 (MQ below (mo_Qi D di dz h ad A r σ0) ([.ref h, .ref (ad k0), .int p1] : List Value).toArray s 0 0 A) (F0 m 42 ls [.int t0]) := by
        intro v4 t0 H locs ls hF V hl
        unfold mo_contactsOf_J42 at hF
        refine lv_iconst (v := 1) hx hb dX6_contactsOf_42 (by decide) ?_
        refine lv_iload hx hb dX6_contactsOf_43 (lv_at hl 2 rfl) ?_
        refine lv_ishl hx hb dX6_contactsOf_45 ?_
        refine lv_goto (tgt := 50) hx hb dX6_contactsOf_46 (by decide) ?_
        refine lv_ior hx hb dX6_contactsOf_50 ?_
        refine lv_istore_n (lv' := [(3, .int (t0 ||| ((1 : Int32) <<< (v4 &&& 31)))), (1, .ref (ad k0)), (2, .int v2), (4, .int v4)]) hx hb dX6_contactsOf_51 rfl hl (by decide) rfl (fun ls hl => ?_)
        refine lv_iinc (v := (v4 + (1 : Int32))) (lv' := [(4, .int (v4 + (1 : Int32))), (3, .int (t0 ||| ((1 : Int32) <<< (v4 &&& 31)))), (1, .ref (ad k0)), (2, .int v2)]) hx hb dX6_contactsOf_52 hl (k := 3) rfl rfl (by decide) rfl (fun ls hl => ?_)
        refine lv_goto (tgt := 5) hx hb dX6_contactsOf_55 (by decide) ?_
        replace hF := Option.some.inj hF
        subst hF
        exact ih5 (t0 ||| ((1 : Int32) <<< (v4 &&& 31))) (v4 + (1 : Int32)) _ _ _ (dx_lk_l hz5) V (lv_sub hl [2, 3, 1, 0] rfl)
      refine lv_iload hx hb dX6_contactsOf_5 (lv_at hl 3 rfl) ?_
      refine lv_aload_n hx hb dX6_contactsOf_7 rfl (lv_at hl 0 rfl) ?_
      refine lv_iconst (v := 1) hx hb dX6_contactsOf_8 (by decide) ?_
      obtain ⟨hg, hF⟩ := dx_gd_some hF
      refine mo_ld S V k0 hk0 (dx_inb_in hg) dX6_contactsOf_9 ?_
      refine lv_icmp_ge (tgt := 58) hx hb dX6_contactsOf_10 (by decide) (fun hc => ?_) (fun hc => ?_)
      · replace hF := (if_pos hc).symm.trans hF
        replace hF := dx_ex_k hF hz5
        refine lv_iload_n hx hb dX6_contactsOf_58 rfl (lv_at hl 2 rfl) ?_
        replace hF := Option.some.inj hF
        subst hF
        exact mo_ri S V hr hlocks rfl dX6_contactsOf_59
      · replace hF := (if_neg hc).symm.trans hF
        refine lv_iload_n hx hb dX6_contactsOf_13 rfl (lv_at hl 2 rfl) ?_
        refine lv_aload_n hx hb dX6_contactsOf_14 rfl (lv_at hl 0 rfl) ?_
        refine lv_bipush (v := 22) hx hb dX6_contactsOf_15 (by decide) ?_
        refine lv_iconst (v := 3) hx hb dX6_contactsOf_17 (by decide) ?_
        refine lv_iload hx hb dX6_contactsOf_18 (lv_at hl 3 rfl) ?_
        refine lv_imul hx hb dX6_contactsOf_20 ?_
        refine lv_iadd hx hb dX6_contactsOf_21 ?_
        obtain ⟨hg, hF⟩ := dx_gd_some hF
        refine mo_ld S V k0 hk0 (dx_inb_in hg) dX6_contactsOf_22 ?_
        refine lv_iload_n hx hb dX6_contactsOf_23 rfl (lv_at hl 1 rfl) ?_
        refine lv_icmp_eq (tgt := 42) hx hb dX6_contactsOf_24 (by decide) (fun hc => ?_) (fun hc => ?_)
        · replace hF := (if_pos hc).symm.trans hF
          exact hJ42 v4 v3 _ _ _ hF V (lv_sub hl [0, 1, 3] rfl)
        · replace hF := (if_neg hc).symm.trans hF
          refine lv_aload_n hx hb dX6_contactsOf_27 rfl (lv_at hl 0 rfl) ?_
          refine lv_bipush (v := 22) hx hb dX6_contactsOf_28 (by decide) ?_
          refine lv_iconst (v := 3) hx hb dX6_contactsOf_30 (by decide) ?_
          refine lv_iload hx hb dX6_contactsOf_31 (lv_at hl 3 rfl) ?_
          refine lv_imul hx hb dX6_contactsOf_33 ?_
          refine lv_iadd hx hb dX6_contactsOf_34 ?_
          refine lv_iconst (v := 1) hx hb dX6_contactsOf_35 (by decide) ?_
          refine lv_iadd hx hb dX6_contactsOf_36 ?_
          obtain ⟨hg, hF⟩ := dx_gd_some hF
          refine mo_ld S V k0 hk0 (dx_inb_in hg) dX6_contactsOf_37 ?_
          refine lv_iload_n hx hb dX6_contactsOf_38 rfl (lv_at hl 1 rfl) ?_
          refine lv_icmp_ne (tgt := 49) hx hb dX6_contactsOf_39 (by decide) (fun hc => ?_) (fun hc => ?_)
          · replace hF := (if_neg hc).symm.trans hF
            refine lv_iconst (v := 0) hx hb dX6_contactsOf_49 (by decide) ?_
            refine lv_ior hx hb dX6_contactsOf_50 ?_
            refine lv_istore_n (lv' := [(3, .int (v3 ||| (0 : Int32))), (1, .ref (ad k0)), (2, .int v2), (4, .int v4)]) hx hb dX6_contactsOf_51 rfl hl (by decide) rfl (fun ls hl => ?_)
            refine lv_iinc (v := (v4 + (1 : Int32))) (lv' := [(4, .int (v4 + (1 : Int32))), (3, .int (v3 ||| (0 : Int32))), (1, .ref (ad k0)), (2, .int v2)]) hx hb dX6_contactsOf_52 hl (k := 3) rfl rfl (by decide) rfl (fun ls hl => ?_)
            refine lv_goto (tgt := 5) hx hb dX6_contactsOf_55 (by decide) ?_
            replace hF := Option.some.inj hF
            subst hF
            exact ih5 (v3 ||| (0 : Int32)) (v4 + (1 : Int32)) _ _ _ (dx_lk_l hz5) V (lv_sub hl [2, 3, 1, 0] rfl)
          · replace hF := (if_pos hc).symm.trans hF
            exact hJ42 v4 v3 _ _ _ hF V (lv_sub hl [0, 1, 3] rfl)
  refine lv_iconst (v := 0) hx hb dX6_contactsOf_0 (by decide) ?_
  refine lv_istore_n (lv' := [(3, .int (0 : Int32)), (0, .ref h), (1, .ref (ad k0)), (2, .int p1)]) hx hb dX6_contactsOf_1 rfl hl (by decide) rfl (fun ls hl => ?_)
  refine lv_iconst (v := 0) hx hb dX6_contactsOf_2 (by decide) ?_
  refine lv_istore (lv' := [(4, .int (0 : Int32)), (3, .int (0 : Int32)), (0, .ref h), (1, .ref (ad k0)), (2, .int p1)]) hx hb dX6_contactsOf_3 hl (by decide) rfl (fun ls hl => ?_)
  exact hL5 p1 dx_fu (0 : Int32) (0 : Int32) _ _ _ hF V (lv_sub hl [3, 4, 1, 0] rfl)
theorem mo_d_person : yX6_person.cls = RX6 ∧ yX6_person.cls ≠ "java/lang/invoke/MethodHandle" ∧ yX6_person.cls ≠ "java/lang/invoke/VarHandle" ∧ (parseMethodDescriptor yX6_person.desc).map (fun d => d.parameters.length) = some 2 := by decide +kernel
set_option maxHeartbeats 4000000 in
set_option maxRecDepth 100000 in
theorem mo_m_person (l : Launch) (D : va_G) (di dz : ClassId) (h : Nat) (ad : Nat → Nat) (A : Nat → Prop)  (p0 : Int32) (p1 : Int32) (σ0 : mo_S) (r : Int32) (hF : mo_person σ0 p0 p1 = some r) : mo_Ci l yX6_person cX6_person 3 .int ({ frames := 2, cells := 0, slots := 0, locals := 43 }) D di dz h ad A [.ref h, .int p0, .int p1] σ0 r σ0 := by
  refine dx_in RX6 rfl (by decide) (Nat.le_of_ble_eq_true rfl) ?_
  intro p e s m below meth c ls S hr hlocks hv hl
  have hx := S.1
  have hb := S.2.1
  have hown := S.2.2.2.1
  have hts := S.2.2.2.2
  obtain ⟨hK, hP, hD⟩ := hv
  have V : mo_V D di dz h ad A s.heap σ0 s s.heap [] := ⟨hK, hP, hD, va_S.rf⟩
  replace hl : lv_has ls 3 [(0, .ref h), (1, .int p0), (2, .int p1)] := hl
  unfold mo_person at hF
  have hJ44 : ∀ (v1 : Int32) (v2 : Int32) (H : Heap) (locs : List Loc) (ls : Array Slot), mo_person_J44 σ0 v1 v2 = some r → mo_V D di dz h ad A s.heap σ0 s H locs → lv_has ls 3 [(0, .ref h), (1, .int v1), (2, .int v2)] → W p l e ({ frames := 2, cells := 0, slots := 0, locals := 43 }) s m ([.ref h, .int p0, .int p1] : List Value).toArray below meth c H locs 0 0 (MQ below (mo_Qi D di dz h ad A r σ0) ([.ref h, .int p0, .int p1] : List Value).toArray s 0 0 A) (F0 m 44 ls []) := by
    intro v1 v2 H locs ls hF V hl
    unfold mo_person_J44 at hF
    refine lv_aload_n hx hb dX6_person_44 rfl (lv_at hl 0 rfl) ?_
    refine mo_get S V 13 (by decide) rfl q1628 rfl dX6_person_45 ?_
    refine lv_iload_n hx hb dX6_person_48 rfl (lv_at hl 1 rfl) ?_
    refine lv_iload_n hx hb dX6_person_49 rfl (lv_at hl 2 rfl) ?_
    obtain ⟨r2, h2c, hF⟩ := dx_b1_some hF
    refine mo_cSi S V [.ref (ad 5), .int v1, .int v2] (mo_m_windowOf l D di dz h ad A 5 (by decide) v1 v2 σ0 _ h2c) (va_cwS 3 hts (lw_S q1864 q1865 q83 q1866) rfl rfl rfl mo_d_windowOf ⟨Nat.le_of_ble_eq_true rfl, Nat.le_of_ble_eq_true rfl⟩) rfl rfl hl.1 (Nat.le_of_ble_eq_true rfl) dX6_person_50 (fun _ _ V => ?_)
    replace hF := Option.some.inj hF
    subst hF
    exact mo_ri S V hr hlocks rfl dX6_person_53
  refine lv_aload_n hx hb dX6_person_0 rfl (lv_at hl 0 rfl) ?_
  refine lv_iload_n hx hb dX6_person_1 rfl (lv_at hl 1 rfl) ?_
  obtain ⟨r1, h1c, hF⟩ := dx_b1_some hF
  refine mo_cVi S V [.int p0] (mo_m_isPerson l D di dz h ad A  p0 σ0 _ h1c) (cwV 1 hts (lw_V q1815 q1817 qs51 q83 q1818) rfl rfl rfl mo_d_isPerson ⟨Nat.le_of_ble_eq_true rfl, Nat.le_of_ble_eq_true rfl⟩) rfl rfl hl.1 (Nat.le_of_ble_eq_true rfl) dX6_person_2 (fun _ _ V => ?_)
  refine lv_if_ne (tgt := 11) hx hb dX6_person_5 (by decide) (fun hc => ?_) (fun hc => ?_)
  · replace hF := dx_ib_t (dx_bI_n hc) hF
    refine lv_iload_n hx hb dX6_person_11 rfl (lv_at hl 2 rfl) ?_
    by_cases hs0 : p1 = (0 : Int32)
    · replace hF := (if_pos hs0).symm.trans hF
      refine lv_tableIn (tgt := 44) hx hb dX6_person_12 (by rw [hs0]; decide) (by rw [hs0]; decide) (by rw [hs0]; rfl) (by decide) ?_
      exact hJ44 p0 p1 _ _ _ hF V (lv_sub hl [0, 1, 2] rfl)
    replace hF := (if_neg hs0).symm.trans hF
    by_cases hs1 : p1 = (1 : Int32)
    · replace hF := (if_pos hs1).symm.trans hF
      refine lv_tableIn (tgt := 44) hx hb dX6_person_12 (by rw [hs1]; decide) (by rw [hs1]; decide) (by rw [hs1]; rfl) (by decide) ?_
      exact hJ44 p0 p1 _ _ _ hF V (lv_sub hl [0, 1, 2] rfl)
    replace hF := (if_neg hs1).symm.trans hF
    by_cases hs2 : p1 = (2 : Int32)
    · replace hF := (if_pos hs2).symm.trans hF
      refine lv_tableIn (tgt := 54) hx hb dX6_person_12 (by rw [hs2]; decide) (by rw [hs2]; decide) (by rw [hs2]; rfl) (by decide) ?_
      refine lv_aload_n hx hb dX6_person_54 rfl (lv_at hl 0 rfl) ?_
      refine mo_get S V 13 (by decide) rfl q1628 rfl dX6_person_55 ?_
      refine lv_iconst (v := 4) hx hb dX6_person_58 (by decide) ?_
      refine lv_iconst (v := 2) hx hb dX6_person_59 (by decide) ?_
      refine lv_iload_n hx hb dX6_person_60 rfl (lv_at hl 1 rfl) ?_
      refine lv_imul hx hb dX6_person_61 ?_
      refine lv_iadd hx hb dX6_person_62 ?_
      refine lv_iconst (v := 1) hx hb dX6_person_63 (by decide) ?_
      refine lv_iadd hx hb dX6_person_64 ?_
      obtain ⟨hg, hF⟩ := dx_gd_some hF
      refine mo_ld S V 5 (by decide) (dx_inb_in hg) dX6_person_65 ?_
      replace hF := Option.some.inj hF
      subst hF
      exact mo_ri S V hr hlocks rfl dX6_person_66
    replace hF := (if_neg hs2).symm.trans hF
    by_cases hs3 : p1 = (3 : Int32)
    · replace hF := (if_pos hs3).symm.trans hF
      refine lv_tableIn (tgt := 67) hx hb dX6_person_12 (by rw [hs3]; decide) (by rw [hs3]; decide) (by rw [hs3]; rfl) (by decide) ?_
      refine lv_aload_n hx hb dX6_person_67 rfl (lv_at hl 0 rfl) ?_
      refine lv_aload_n hx hb dX6_person_68 rfl (lv_at hl 0 rfl) ?_
      refine mo_get S V 13 (by decide) rfl q1628 rfl dX6_person_69 ?_
      refine lv_iload_n hx hb dX6_person_72 rfl (lv_at hl 1 rfl) ?_
      obtain ⟨r3, h3c, hF⟩ := dx_b1_some hF
      refine mo_cVi S V [.ref (ad 5), .int p0] (mo_m_contactsOf l D di dz h ad A 5 (by decide) p0 σ0 _ h3c) (cwV 2 hts (lw_V q1867 q1869 qs56 q83 q1870) rfl rfl rfl mo_d_contactsOf ⟨Nat.le_of_ble_eq_true rfl, Nat.le_of_ble_eq_true rfl⟩) rfl rfl hl.1 (Nat.le_of_ble_eq_true rfl) dX6_person_73 (fun _ _ V => ?_)
      replace hF := Option.some.inj hF
      subst hF
      exact mo_ri S V hr hlocks rfl dX6_person_76
    replace hF := (if_neg hs3).symm.trans hF
    refine lv_tableOut (tgt := 77) hx hb dX6_person_12 (by have nhs0 := lv_neT hs0 (show ((0 : Int32)).toInt = 0 from rfl); have nhs1 := lv_neT hs1 (show ((1 : Int32)).toInt = 1 from rfl); have nhs2 := lv_neT hs2 (show ((2 : Int32)).toInt = 2 from rfl); have nhs3 := lv_neT hs3 (show ((3 : Int32)).toInt = 3 from rfl); omega) (by decide) ?_
    refine lv_ldc hx hb hown (hts _ q1714) dX6_person_77 ?_
    replace hF := Option.some.inj hF
    subst hF
    exact mo_ri S V hr hlocks rfl dX6_person_79
  · replace hF := dx_ib_f (dx_bI_0 hc) hF
    refine lv_ldc hx hb hown (hts _ q1714) dX6_person_8 ?_
    replace hF := Option.some.inj hF
    subst hF
    exact mo_ri S V hr hlocks rfl dX6_person_10
theorem mo_d_contact : yX6_contact.cls = RX6 ∧ yX6_contact.cls ≠ "java/lang/invoke/MethodHandle" ∧ yX6_contact.cls ≠ "java/lang/invoke/VarHandle" ∧ (parseMethodDescriptor yX6_contact.desc).map (fun d => d.parameters.length) = some 2 := by decide +kernel
set_option maxHeartbeats 4000000 in
set_option maxRecDepth 100000 in
theorem mo_m_contact (l : Launch) (D : va_G) (di dz : ClassId) (h : Nat) (ad : Nat → Nat) (A : Nat → Prop)  (p0 : Int32) (p1 : Int32) (σ0 : mo_S) (r : Int32) (hF : mo_contact σ0 p0 p1 = some r) : mo_Ci l yX6_contact cX6_contact 3 .int ({ frames := 2, cells := 0, slots := 0, locals := 43 }) D di dz h ad A [.ref h, .int p0, .int p1] σ0 r σ0 := by
  refine dx_in RX6 rfl (by decide) (Nat.le_of_ble_eq_true rfl) ?_
  intro p e s m below meth c ls S hr hlocks hv hl
  have hx := S.1
  have hb := S.2.1
  have hown := S.2.2.2.1
  have hts := S.2.2.2.2
  obtain ⟨hK, hP, hD⟩ := hv
  have V : mo_V D di dz h ad A s.heap σ0 s s.heap [] := ⟨hK, hP, hD, va_S.rf⟩
  replace hl : lv_has ls 3 [(0, .ref h), (1, .int p0), (2, .int p1)] := hl
  unfold mo_contact at hF
  refine lv_aload_n hx hb dX6_contact_0 rfl (lv_at hl 0 rfl) ?_
  refine lv_iload_n hx hb dX6_contact_1 rfl (lv_at hl 1 rfl) ?_
  obtain ⟨r1, h1c, hF⟩ := dx_b1_some hF
  refine mo_cVi S V [.int p0] (mo_m_isContact l D di dz h ad A  p0 σ0 _ h1c) (cwV 1 hts (lw_V q1827 q1829 qs53 q83 q1830) rfl rfl rfl mo_d_isContact ⟨Nat.le_of_ble_eq_true rfl, Nat.le_of_ble_eq_true rfl⟩) rfl rfl hl.1 (Nat.le_of_ble_eq_true rfl) dX6_contact_2 (fun _ _ V => ?_)
  refine lv_if_eq (tgt := 33) hx hb dX6_contact_5 (by decide) (fun hc => ?_) (fun hc => ?_)
  · replace hF := dx_ib_f (dx_bI_0 hc) hF
    refine lv_ldc hx hb hown (hts _ q1714) dX6_contact_33 ?_
    replace hF := Option.some.inj hF
    subst hF
    exact mo_ri S V hr hlocks rfl dX6_contact_35
  · replace hF := dx_ib_t (dx_bI_n hc) hF
    refine lv_iload_n hx hb dX6_contact_8 rfl (lv_at hl 2 rfl) ?_
    refine lv_iconst (v := 0) hx hb dX6_contact_9 (by decide) ?_
    refine lv_iconst (v := 2) hx hb dX6_contact_10 (by decide) ?_
    obtain ⟨r2, h2c, hF⟩ := dx_b1_some hF
    refine dx_cPi S [.int p1, .int (0 : Int32), .int (2 : Int32)] (mo_m_in l p1 (0 : Int32) (2 : Int32) _ h2c) (va_cwS 3 hts (lw_S q1711 q1712 q83 q1713) rfl rfl rfl mo_d_in ⟨Nat.le_of_ble_eq_true rfl, Nat.le_of_ble_eq_true rfl⟩) rfl rfl hl.1 (Nat.le_of_ble_eq_true rfl) dX6_contact_11 ⟨Nat.zero_le _, Nat.zero_le _⟩ ?_
    refine lv_if_eq (tgt := 33) hx hb dX6_contact_14 (by decide) (fun hc => ?_) (fun hc => ?_)
    · replace hF := dx_ib_f (dx_bI_0 hc) hF
      refine lv_ldc hx hb hown (hts _ q1714) dX6_contact_33 ?_
      replace hF := Option.some.inj hF
      subst hF
      exact mo_ri S V hr hlocks rfl dX6_contact_35
    · replace hF := dx_ib_t (dx_bI_n hc) hF
      refine lv_aload_n hx hb dX6_contact_17 rfl (lv_at hl 0 rfl) ?_
      refine mo_get S V 13 (by decide) rfl q1628 rfl dX6_contact_18 ?_
      refine lv_bipush (v := 22) hx hb dX6_contact_21 (by decide) ?_
      refine lv_iconst (v := 3) hx hb dX6_contact_23 (by decide) ?_
      refine lv_iload_n hx hb dX6_contact_24 rfl (lv_at hl 1 rfl) ?_
      refine lv_imul hx hb dX6_contact_25 ?_
      refine lv_iadd hx hb dX6_contact_26 ?_
      refine lv_iload_n hx hb dX6_contact_27 rfl (lv_at hl 2 rfl) ?_
      refine lv_iadd hx hb dX6_contact_28 ?_
      obtain ⟨hg, hF⟩ := dx_gd_some hF
      refine mo_ld S V 5 (by decide) (dx_inb_in hg) dX6_contact_29 ?_
      refine lv_goto (tgt := 35) hx hb dX6_contact_30 (by decide) ?_
      replace hF := Option.some.inj hF
      subst hF
      exact mo_ri S V hr hlocks rfl dX6_contact_35
theorem mo_d_isFrom : yX6_isFrom.cls = RX6 ∧ yX6_isFrom.cls ≠ "java/lang/invoke/MethodHandle" ∧ yX6_isFrom.cls ≠ "java/lang/invoke/VarHandle" ∧ (parseMethodDescriptor yX6_isFrom.desc).map (fun d => d.parameters.length) = some 2 := by decide +kernel
set_option maxHeartbeats 4000000 in
set_option maxRecDepth 100000 in
theorem mo_m_isFrom (l : Launch) (D : va_G) (di dz : ClassId) (h : Nat) (ad : Nat → Nat) (A : Nat → Prop)  (p0 : Int32) (p1 : Int32) (σ0 : mo_S) (r : Bool) (hF : mo_isFrom σ0 p0 p1 = some r) : mo_Ci l yX6_isFrom cX6_isFrom 3 .boolean ({ frames := 2, cells := 0, slots := 0, locals := 43 }) D di dz h ad A [.ref h, .int p0, .int p1] σ0 (dx_bI r) σ0 := by
  refine dx_in RX6 rfl (by decide) (Nat.le_of_ble_eq_true rfl) ?_
  intro p e s m below meth c ls S hr hlocks hv hl
  have hx := S.1
  have hb := S.2.1
  have hown := S.2.2.2.1
  have hts := S.2.2.2.2
  obtain ⟨hK, hP, hD⟩ := hv
  have V : mo_V D di dz h ad A s.heap σ0 s s.heap [] := ⟨hK, hP, hD, va_S.rf⟩
  replace hl : lv_has ls 3 [(0, .ref h), (1, .int p0), (2, .int p1)] := hl
  unfold mo_isFrom at hF
  refine lv_aload_n hx hb dX6_isFrom_0 rfl (lv_at hl 0 rfl) ?_
  refine lv_iload_n hx hb dX6_isFrom_1 rfl (lv_at hl 1 rfl) ?_
  obtain ⟨r1, h1c, hF⟩ := dx_b1_some hF
  refine mo_cVi S V [.int p0] (mo_m_isPerson l D di dz h ad A  p0 σ0 _ h1c) (cwV 1 hts (lw_V q1815 q1817 qs51 q83 q1818) rfl rfl rfl mo_d_isPerson ⟨Nat.le_of_ble_eq_true rfl, Nat.le_of_ble_eq_true rfl⟩) rfl rfl hl.1 (Nat.le_of_ble_eq_true rfl) dX6_isFrom_2 (fun _ _ V => ?_)
  refine lv_if_eq (tgt := 22) hx hb dX6_isFrom_5 (by decide) (fun hc => ?_) (fun hc => ?_)
  · replace hF := dx_ib_f (dx_bI_0 hc) hF
    refine lv_iconst (v := 0) hx hb dX6_isFrom_22 (by decide) ?_
    replace hF := Option.some.inj hF
    subst hF
    exact mo_ri S V hr hlocks rfl dX6_isFrom_23
  · replace hF := dx_ib_t (dx_bI_n hc) hF
    refine lv_iload_n hx hb dX6_isFrom_8 rfl (lv_at hl 2 rfl) ?_
    refine lv_iconst (v := 0) hx hb dX6_isFrom_9 (by decide) ?_
    refine lv_bipush (v := 30) hx hb dX6_isFrom_10 (by decide) ?_
    obtain ⟨r2, h2c, hF⟩ := dx_b1_some hF
    refine dx_cPi S [.int p1, .int (0 : Int32), .int (30 : Int32)] (mo_m_in l p1 (0 : Int32) (30 : Int32) _ h2c) (va_cwS 3 hts (lw_S q1711 q1712 q83 q1713) rfl rfl rfl mo_d_in ⟨Nat.le_of_ble_eq_true rfl, Nat.le_of_ble_eq_true rfl⟩) rfl rfl hl.1 (Nat.le_of_ble_eq_true rfl) dX6_isFrom_12 ⟨Nat.zero_le _, Nat.zero_le _⟩ ?_
    refine lv_if_eq (tgt := 22) hx hb dX6_isFrom_15 (by decide) (fun hc => ?_) (fun hc => ?_)
    · replace hF := dx_ib_f (dx_bI_0 hc) hF
      refine lv_iconst (v := 0) hx hb dX6_isFrom_22 (by decide) ?_
      replace hF := Option.some.inj hF
      subst hF
      exact mo_ri S V hr hlocks rfl dX6_isFrom_23
    · replace hF := dx_ib_t (dx_bI_n hc) hF
      refine lv_iconst (v := 1) hx hb dX6_isFrom_18 (by decide) ?_
      refine lv_goto (tgt := 23) hx hb dX6_isFrom_19 (by decide) ?_
      replace hF := Option.some.inj hF
      subst hF
      exact mo_ri S V hr hlocks rfl dX6_isFrom_23
theorem mo_d_has : yX6_has.cls ≠ "java/lang/invoke/MethodHandle" ∧ yX6_has.cls ≠ "java/lang/invoke/VarHandle" ∧ (parseMethodDescriptor yX6_has.desc).map (fun d => d.parameters.length) = some 2 := by decide +kernel
set_option maxHeartbeats 4000000 in
set_option maxRecDepth 100000 in
theorem mo_m_has (l : Launch) (p0 : Int32) (p1 : Int32) (r : Bool) (hF : mo_has p0 p1 = some r) : dx_Pi l yX6_has cX6_has 2 .boolean ({ frames := 0, cells := 0, slots := 0, locals := 0 }) [.int p0, .int p1] (dx_bI r) := by
  refine dx_in RX6 rfl (by decide) (Nat.le_of_ble_eq_true rfl) ?_
  intro p e s m below meth c ls S hr hlocks hv hl
  have hx := S.1
  have hb := S.2.1
  have hown := S.2.2.2.1
  have hts := S.2.2.2.2
  replace hl : lv_has ls 2 [(0, .int p0), (1, .int p1)] := hl
  unfold mo_has at hF
  refine lv_iload_n hx hb dX6_has_0 rfl (lv_at hl 0 rfl) ?_
  refine lv_iload_n hx hb dX6_has_1 rfl (lv_at hl 1 rfl) ?_
  refine lv_ishr hx hb dX6_has_2 ?_
  refine lv_iconst (v := 1) hx hb dX6_has_3 (by decide) ?_
  refine lv_iand hx hb dX6_has_4 ?_
  refine lv_iconst (v := 1) hx hb dX6_has_5 (by decide) ?_
  refine lv_icmp_ne (tgt := 13) hx hb dX6_has_6 (by decide) (fun hc => ?_) (fun hc => ?_)
  · replace hF := (if_neg hc).symm.trans hF
    refine lv_iconst (v := 0) hx hb dX6_has_13 (by decide) ?_
    replace hF := Option.some.inj hF
    subst hF
    exact dx_rPi S hr hlocks rfl dX6_has_14
  · replace hF := (if_pos hc).symm.trans hF
    refine lv_iconst (v := 1) hx hb dX6_has_9 (by decide) ?_
    refine lv_goto (tgt := 14) hx hb dX6_has_10 (by decide) ?_
    replace hF := Option.some.inj hF
    subst hF
    exact dx_rPi S hr hlocks rfl dX6_has_14
theorem mo_d_mayPass : yX6_mayPass.cls ≠ "java/lang/invoke/MethodHandle" ∧ yX6_mayPass.cls ≠ "java/lang/invoke/VarHandle" ∧ (parseMethodDescriptor yX6_mayPass.desc).map (fun d => d.parameters.length) = some 4 := by decide +kernel
set_option maxHeartbeats 4000000 in
set_option maxRecDepth 100000 in
theorem mo_m_mayPass (l : Launch) (D : va_G) (di dz : ClassId) (h : Nat) (ad : Nat → Nat) (A : Nat → Prop) (k0 : Nat) (hk0 : k0 < 17 ∧ ¬ k0 = 10) (p1 : Int32) (p2 : Int32) (p3 : Int32) (σ0 : mo_S) (r : Bool) (hF : mo_mayPass k0 σ0 p1 p2 p3 = some r) : mo_Ci l yX6_mayPass cX6_mayPass 5 .boolean ({ frames := 1, cells := 0, slots := 0, locals := 23 }) D di dz h ad A [.ref (ad k0), .int p1, .int p2, .int p3] σ0 (dx_bI r) σ0 := by
  refine dx_in RX6 rfl (by decide) (Nat.le_of_ble_eq_true rfl) ?_
  intro p e s m below meth c ls S hr hlocks hv hl
  have hx := S.1
  have hb := S.2.1
  have hown := S.2.2.2.1
  have hts := S.2.2.2.2
  obtain ⟨hK, hP, hD⟩ := hv
  have V : mo_V D di dz h ad A s.heap σ0 s s.heap [] := ⟨hK, hP, hD, va_S.rf⟩
  replace hl : lv_has ls 5 [(0, .ref (ad k0)), (1, .int p1), (2, .int p2), (3, .int p3)] := hl
  unfold mo_mayPass at hF
  refine lv_aload_n hx hb dX6_mayPass_0 rfl (lv_at hl 0 rfl) ?_
  refine lv_iload_n hx hb dX6_mayPass_1 rfl (lv_at hl 1 rfl) ?_
  refine lv_iconst (v := 0) hx hb dX6_mayPass_2 (by decide) ?_
  obtain ⟨r1, h1c, hF⟩ := dx_b1_some hF
  refine mo_cSi S V [.ref (ad k0), .int p1, .int (0 : Int32)] (mo_m_windowOf l D di dz h ad A k0 hk0 p1 (0 : Int32) σ0 _ h1c) (va_cwS 3 hts (lw_S q1864 q1865 q83 q1866) rfl rfl rfl mo_d_windowOf ⟨Nat.le_of_ble_eq_true rfl, Nat.le_of_ble_eq_true rfl⟩) rfl rfl hl.1 (Nat.le_of_ble_eq_true rfl) dX6_mayPass_3 (fun _ _ V => ?_)
  refine lv_istore (lv' := [(4, .int r1), (0, .ref (ad k0)), (1, .int p1), (2, .int p2), (3, .int p3)]) hx hb dX6_mayPass_6 hl (by decide) rfl (fun ls hl => ?_)
  refine lv_iload hx hb dX6_mayPass_8 (lv_at hl 0 rfl) ?_
  refine lv_ldc hx hb hown (hts _ q1614) dX6_mayPass_10 ?_
  refine lv_icmp_eq (tgt := 39) hx hb dX6_mayPass_12 (by decide) (fun hc => ?_) (fun hc => ?_)
  · replace hF := (if_pos hc).symm.trans hF
    refine lv_iconst (v := 0) hx hb dX6_mayPass_39 (by decide) ?_
    replace hF := Option.some.inj hF
    subst hF
    exact mo_ri S V hr hlocks rfl dX6_mayPass_40
  · replace hF := (if_neg hc).symm.trans hF
    refine lv_iload_n hx hb dX6_mayPass_15 rfl (lv_at hl 4 rfl) ?_
    refine lv_iload_n hx hb dX6_mayPass_16 rfl (lv_at hl 3 rfl) ?_
    refine lv_isub hx hb dX6_mayPass_17 ?_
    refine lv_iload hx hb dX6_mayPass_18 (lv_at hl 0 rfl) ?_
    refine lv_icmp_lt (tgt := 39) hx hb dX6_mayPass_20 (by decide) (fun hc => ?_) (fun hc => ?_)
    · replace hF := (if_pos hc).symm.trans hF
      refine lv_iconst (v := 0) hx hb dX6_mayPass_39 (by decide) ?_
      replace hF := Option.some.inj hF
      subst hF
      exact mo_ri S V hr hlocks rfl dX6_mayPass_40
    · replace hF := (if_neg hc).symm.trans hF
      refine lv_iload_n hx hb dX6_mayPass_23 rfl (lv_at hl 4 rfl) ?_
      refine lv_iload_n hx hb dX6_mayPass_24 rfl (lv_at hl 3 rfl) ?_
      refine lv_isub hx hb dX6_mayPass_25 ?_
      refine lv_aload_n hx hb dX6_mayPass_26 rfl (lv_at hl 1 rfl) ?_
      refine lv_iload_n hx hb dX6_mayPass_27 rfl (lv_at hl 2 rfl) ?_
      refine lv_iconst (v := 1) hx hb dX6_mayPass_28 (by decide) ?_
      obtain ⟨r2, h2c, hF⟩ := dx_b1_some hF
      refine mo_cSi S V [.ref (ad k0), .int p1, .int (1 : Int32)] (mo_m_windowOf l D di dz h ad A k0 hk0 p1 (1 : Int32) σ0 _ h2c) (va_cwS 3 hts (lw_S q1864 q1865 q83 q1866) rfl rfl rfl mo_d_windowOf ⟨Nat.le_of_ble_eq_true rfl, Nat.le_of_ble_eq_true rfl⟩) rfl rfl hl.1 (Nat.le_of_ble_eq_true rfl) dX6_mayPass_29 (fun _ _ V => ?_)
      refine lv_icmp_gt (tgt := 39) hx hb dX6_mayPass_32 (by decide) (fun hc => ?_) (fun hc => ?_)
      · replace hF := (if_pos hc).symm.trans hF
        refine lv_iconst (v := 0) hx hb dX6_mayPass_39 (by decide) ?_
        replace hF := Option.some.inj hF
        subst hF
        exact mo_ri S V hr hlocks rfl dX6_mayPass_40
      · replace hF := (if_neg hc).symm.trans hF
        refine lv_iconst (v := 1) hx hb dX6_mayPass_35 (by decide) ?_
        refine lv_goto (tgt := 40) hx hb dX6_mayPass_36 (by decide) ?_
        replace hF := Option.some.inj hF
        subst hF
        exact mo_ri S V hr hlocks rfl dX6_mayPass_40
theorem mo_d_passes : yX6_passes.cls = RX6 ∧ yX6_passes.cls ≠ "java/lang/invoke/MethodHandle" ∧ yX6_passes.cls ≠ "java/lang/invoke/VarHandle" ∧ (parseMethodDescriptor yX6_passes.desc).map (fun d => d.parameters.length) = some 3 := by decide +kernel
set_option maxHeartbeats 4000000 in
set_option maxRecDepth 100000 in
theorem mo_m_passes (l : Launch) (D : va_G) (di dz : ClassId) (h : Nat) (ad : Nat → Nat) (A : Nat → Prop) (k0 : Nat) (hk0 : k0 < 17 ∧ ¬ k0 = 10) (p1 : Int32) (p2 : Int32) (σ0 : mo_S) (r : Bool) (hF : mo_passes k0 σ0 p1 p2 = some r) : mo_Ci l yX6_passes cX6_passes 6 .boolean ({ frames := 2, cells := 0, slots := 0, locals := 47 }) D di dz h ad A [.ref h, .ref (ad k0), .int p1, .int p2] σ0 (dx_bI r) σ0 := by
  refine dx_in RX6 rfl (by decide) (Nat.le_of_ble_eq_true rfl) ?_
  intro p e s m below meth c ls S hr hlocks hv hl
  have hx := S.1
  have hb := S.2.1
  have hown := S.2.2.2.1
  have hts := S.2.2.2.2
  obtain ⟨hK, hP, hD⟩ := hv
  have V : mo_V D di dz h ad A s.heap σ0 s s.heap [] := ⟨hK, hP, hD, va_S.rf⟩
  replace hl : lv_has ls 6 [(0, .ref h), (1, .ref (ad k0)), (2, .int p1), (3, .int p2)] := hl
  unfold mo_passes at hF
  have hL6 : ∀ (v2 : Int32) (v3 : Int32) (n : Nat) (v4 : Bool) (v5 : Int32) (H : Heap) (locs : List Loc) (ls : Array Slot), dx_lp (fun x => mo_passes_L6 k0 σ0 v2 v3 x.1 x.2) n (v4, v5) = some r → mo_V D di dz h ad A s.heap σ0 s H locs → lv_has ls 6 [(0, .ref h), (1, .ref (ad k0)), (2, .int v2), (3, .int v3), (4, .int (dx_bI v4)), (5, .int v5)] → W p l e ({ frames := 2, cells := 0, slots := 0, locals := 47 }) s m ([.ref h, .ref (ad k0), .int p1, .int p2] : List Value).toArray below meth c H locs 0 0 (MQ below (mo_Qi D di dz h ad A (dx_bI r) σ0) ([.ref h, .ref (ad k0), .int p1, .int p2] : List Value).toArray s 0 0 A) (F0 m 6 ls []) := by
    intro v2 v3 n
    induction n with
    | zero =>
      intro v4 v5 H locs ls hF V hl
      exact (dx_lp_0 hF).elim
    | succ n ih6 =>
      intro v4 v5 H locs ls hF V hl
      obtain ⟨y6, hF, hz6⟩ := dx_lp_s hF
      replace hF : mo_passes_L6 k0 σ0 v2 v3 v4 v5 = some y6 := hF
      unfold mo_passes_L6 at hF
      refine lv_iload hx hb dX6_passes_6 (lv_at hl 5 rfl) ?_
      refine lv_iload_n hx hb dX6_passes_8 rfl (lv_at hl 3 rfl) ?_
      refine lv_icmp_ge (tgt := 55) hx hb dX6_passes_9 (by decide) (fun hc => ?_) (fun hc => ?_)
      · replace hF := (if_pos hc).symm.trans hF
        replace hF := dx_ex_k hF hz6
        refine lv_iload hx hb dX6_passes_55 (lv_at hl 4 rfl) ?_
        replace hF := Option.some.inj hF
        subst hF
        exact mo_ri S V hr hlocks (dx_bI_nar _) dX6_passes_57
      · replace hF := (if_neg hc).symm.trans hF
        refine lv_iload hx hb dX6_passes_12 (lv_at hl 4 rfl) ?_
        refine lv_if_ne (tgt := 42) hx hb dX6_passes_14 (by decide) (fun hc => ?_) (fun hc => ?_)
        · replace hF := dx_ib_t (dx_bI_n hc) hF
          refine lv_iconst (v := 1) hx hb dX6_passes_42 (by decide) ?_
          refine lv_goto (tgt := 47) hx hb dX6_passes_43 (by decide) ?_
          refine lv_istore (lv' := [(4, .int (1 : Int32)), (0, .ref h), (1, .ref (ad k0)), (2, .int v2), (3, .int v3), (5, .int v5)]) hx hb dX6_passes_47 hl (by decide) rfl (fun ls hl => ?_)
          refine lv_iinc (v := (v5 + (1 : Int32))) (lv' := [(5, .int (v5 + (1 : Int32))), (4, .int (1 : Int32)), (0, .ref h), (1, .ref (ad k0)), (2, .int v2), (3, .int v3)]) hx hb dX6_passes_49 hl (k := 5) rfl rfl (by decide) rfl (fun ls hl => ?_)
          refine lv_goto (tgt := 6) hx hb dX6_passes_52 (by decide) ?_
          replace hF := Option.some.inj hF
          subst hF
          exact ih6 true (v5 + (1 : Int32)) _ _ _ (dx_lk_l hz6) V (lv_sub hl [2, 3, 4, 5, 1, 0] rfl)
        · replace hF := dx_ib_f (dx_bI_0 hc) hF
          refine lv_aload_n hx hb dX6_passes_17 rfl (lv_at hl 0 rfl) ?_
          refine mo_get S V 20 (by decide) rfl q1635 rfl dX6_passes_18 ?_
          refine lv_iload_n hx hb dX6_passes_21 rfl (lv_at hl 2 rfl) ?_
          obtain ⟨hg, hF⟩ := dx_gd_some hF
          refine mo_ld S V 11 (by decide) (dx_inb_in hg) dX6_passes_22 ?_
          refine lv_iload hx hb dX6_passes_23 (lv_at hl 5 rfl) ?_
          obtain ⟨r1, h1c, hF⟩ := dx_b1_some hF
          refine dx_cPi S [.int (σ0.2 11 v2.toNatClampNeg), .int v5] (mo_m_has l (σ0.2 11 v2.toNatClampNeg) v5 _ h1c) (va_cwS 2 hts (lw_S q1887 q1888 q83 q1889) rfl rfl rfl mo_d_has ⟨Nat.le_of_ble_eq_true rfl, Nat.le_of_ble_eq_true rfl⟩) rfl rfl hl.1 (Nat.le_of_ble_eq_true rfl) dX6_passes_25 ⟨Nat.zero_le _, Nat.zero_le _⟩ ?_
          refine lv_if_eq (tgt := 46) hx hb dX6_passes_28 (by decide) (fun hc => ?_) (fun hc => ?_)
          · replace hF := dx_ib_f (dx_bI_0 hc) hF
            refine lv_iconst (v := 0) hx hb dX6_passes_46 (by decide) ?_
            refine lv_istore (lv' := [(4, .int (0 : Int32)), (0, .ref h), (1, .ref (ad k0)), (2, .int v2), (3, .int v3), (5, .int v5)]) hx hb dX6_passes_47 hl (by decide) rfl (fun ls hl => ?_)
            refine lv_iinc (v := (v5 + (1 : Int32))) (lv' := [(5, .int (v5 + (1 : Int32))), (4, .int (0 : Int32)), (0, .ref h), (1, .ref (ad k0)), (2, .int v2), (3, .int v3)]) hx hb dX6_passes_49 hl (k := 5) rfl rfl (by decide) rfl (fun ls hl => ?_)
            refine lv_goto (tgt := 6) hx hb dX6_passes_52 (by decide) ?_
            replace hF := Option.some.inj hF
            subst hF
            exact ih6 false (v5 + (1 : Int32)) _ _ _ (dx_lk_l hz6) V (lv_sub hl [2, 3, 4, 5, 1, 0] rfl)
          · replace hF := dx_ib_t (dx_bI_n hc) hF
            refine lv_aload_n hx hb dX6_passes_31 rfl (lv_at hl 1 rfl) ?_
            refine lv_iload_n hx hb dX6_passes_32 rfl (lv_at hl 2 rfl) ?_
            refine lv_iload hx hb dX6_passes_33 (lv_at hl 5 rfl) ?_
            refine lv_iload_n hx hb dX6_passes_35 rfl (lv_at hl 3 rfl) ?_
            obtain ⟨r2, h2c, hF⟩ := dx_b1_some hF
            refine mo_cSi S V [.ref (ad k0), .int v2, .int v5, .int v3] (mo_m_mayPass l D di dz h ad A k0 hk0 v2 v5 v3 σ0 _ h2c) (va_cwS 4 hts (lw_S q1898 q1899 q83 q1900) rfl rfl rfl mo_d_mayPass ⟨Nat.le_of_ble_eq_true rfl, Nat.le_of_ble_eq_true rfl⟩) rfl rfl hl.1 (Nat.le_of_ble_eq_true rfl) dX6_passes_36 (fun _ _ V => ?_)
            refine lv_if_eq (tgt := 46) hx hb dX6_passes_39 (by decide) (fun hc => ?_) (fun hc => ?_)
            · replace hF := dx_ib_f (dx_bI_0 hc) hF
              refine lv_iconst (v := 0) hx hb dX6_passes_46 (by decide) ?_
              refine lv_istore (lv' := [(4, .int (0 : Int32)), (0, .ref h), (1, .ref (ad k0)), (2, .int v2), (3, .int v3), (5, .int v5)]) hx hb dX6_passes_47 hl (by decide) rfl (fun ls hl => ?_)
              refine lv_iinc (v := (v5 + (1 : Int32))) (lv' := [(5, .int (v5 + (1 : Int32))), (4, .int (0 : Int32)), (0, .ref h), (1, .ref (ad k0)), (2, .int v2), (3, .int v3)]) hx hb dX6_passes_49 hl (k := 5) rfl rfl (by decide) rfl (fun ls hl => ?_)
              refine lv_goto (tgt := 6) hx hb dX6_passes_52 (by decide) ?_
              replace hF := Option.some.inj hF
              subst hF
              exact ih6 false (v5 + (1 : Int32)) _ _ _ (dx_lk_l hz6) V (lv_sub hl [2, 3, 4, 5, 1, 0] rfl)
            · replace hF := dx_ib_t (dx_bI_n hc) hF
              refine lv_iconst (v := 1) hx hb dX6_passes_42 (by decide) ?_
              refine lv_goto (tgt := 47) hx hb dX6_passes_43 (by decide) ?_
              refine lv_istore (lv' := [(4, .int (1 : Int32)), (0, .ref h), (1, .ref (ad k0)), (2, .int v2), (3, .int v3), (5, .int v5)]) hx hb dX6_passes_47 hl (by decide) rfl (fun ls hl => ?_)
              refine lv_iinc (v := (v5 + (1 : Int32))) (lv' := [(5, .int (v5 + (1 : Int32))), (4, .int (1 : Int32)), (0, .ref h), (1, .ref (ad k0)), (2, .int v2), (3, .int v3)]) hx hb dX6_passes_49 hl (k := 5) rfl rfl (by decide) rfl (fun ls hl => ?_)
              refine lv_goto (tgt := 6) hx hb dX6_passes_52 (by decide) ?_
              replace hF := Option.some.inj hF
              subst hF
              exact ih6 true (v5 + (1 : Int32)) _ _ _ (dx_lk_l hz6) V (lv_sub hl [2, 3, 4, 5, 1, 0] rfl)
  refine lv_iconst (v := 0) hx hb dX6_passes_0 (by decide) ?_
  refine lv_istore (lv' := [(4, .int (0 : Int32)), (0, .ref h), (1, .ref (ad k0)), (2, .int p1), (3, .int p2)]) hx hb dX6_passes_1 hl (by decide) rfl (fun ls hl => ?_)
  refine lv_iconst (v := 0) hx hb dX6_passes_3 (by decide) ?_
  refine lv_istore (lv' := [(5, .int (0 : Int32)), (4, .int (0 : Int32)), (0, .ref h), (1, .ref (ad k0)), (2, .int p1), (3, .int p2)]) hx hb dX6_passes_4 hl (by decide) rfl (fun ls hl => ?_)
  exact hL6 p1 p2 dx_fu false (0 : Int32) _ _ _ hF V (lv_sub hl [2, 3, 4, 5, 1, 0] rfl)
theorem mo_d_gives : yX6_gives.cls = RX6 ∧ yX6_gives.cls ≠ "java/lang/invoke/MethodHandle" ∧ yX6_gives.cls ≠ "java/lang/invoke/VarHandle" ∧ (parseMethodDescriptor yX6_gives.desc).map (fun d => d.parameters.length) = some 4 := by decide +kernel
set_option maxHeartbeats 4000000 in
set_option maxRecDepth 100000 in
theorem mo_m_gives (l : Launch) (D : va_G) (di dz : ClassId) (h : Nat) (ad : Nat → Nat) (A : Nat → Prop) (k0 : Nat) (hk0 : k0 < 17 ∧ ¬ k0 = 10) (p1 : Int32) (p2 : Int32) (p3 : Int32) (σ0 : mo_S) (σ' : mo_S) (hF : mo_gives k0 σ0 p1 p2 p3 = some σ') : mo_Cv l yX6_gives cX6_gives 5 ({ frames := 3, cells := 0, slots := 0, locals := 72 }) D di dz h ad A [.ref h, .ref (ad k0), .int p1, .int p2, .int p3] σ0 σ' := by
  refine dx_in RX6 rfl (by decide) (Nat.le_of_ble_eq_true rfl) ?_
  intro p e s m below meth c ls S hr hlocks hv hl
  have hx := S.1
  have hb := S.2.1
  have hown := S.2.2.2.1
  have hts := S.2.2.2.2
  obtain ⟨hK, hP, hD⟩ := hv
  have V : mo_V D di dz h ad A s.heap σ0 s s.heap [] := ⟨hK, hP, hD, va_S.rf⟩
  replace hl : lv_has ls 5 [(0, .ref h), (1, .ref (ad k0)), (2, .int p1), (3, .int p2), (4, .int p3)] := hl
  unfold mo_gives at hF
  refine lv_aload_n hx hb dX6_gives_0 rfl (lv_at hl 1 rfl) ?_
  refine lv_iconst (v := 4) hx hb dX6_gives_1 (by decide) ?_
  refine lv_iconst (v := 2) hx hb dX6_gives_2 (by decide) ?_
  refine lv_iload_n hx hb dX6_gives_3 rfl (lv_at hl 3 rfl) ?_
  refine lv_imul hx hb dX6_gives_4 ?_
  refine lv_iadd hx hb dX6_gives_5 ?_
  obtain ⟨hg, hF⟩ := dx_gd_some hF
  refine mo_ld S V k0 hk0 (dx_inb_in hg) dX6_gives_6 ?_
  refine lv_iconst (v := 5) hx hb dX6_gives_7 (by decide) ?_
  refine lv_icmp_eq (tgt := 47) hx hb dX6_gives_8 (by decide) (fun hc => ?_) (fun hc => ?_)
  · replace hF := (if_pos hc).symm.trans hF
    replace hF := Option.some.inj hF
    subst hF
    exact mo_rv S V hr hlocks dX6_gives_47
  · replace hF := (if_neg hc).symm.trans hF
    refine lv_aload_n hx hb dX6_gives_11 rfl (lv_at hl 0 rfl) ?_
    refine lv_aload_n hx hb dX6_gives_12 rfl (lv_at hl 1 rfl) ?_
    refine lv_iload_n hx hb dX6_gives_13 rfl (lv_at hl 2 rfl) ?_
    refine lv_iload hx hb dX6_gives_14 (lv_at hl 4 rfl) ?_
    obtain ⟨r1, h1c, hF⟩ := dx_b1_some hF
    refine mo_cVi S V [.ref (ad k0), .int p1, .int p3] (mo_m_passes l D di dz h ad A k0 hk0 p1 p3 σ0 _ h1c) (cwV 3 hts (lw_V q1894 q1896 qs60 q83 q1897) rfl rfl rfl mo_d_passes ⟨Nat.le_of_ble_eq_true rfl, Nat.le_of_ble_eq_true rfl⟩) rfl rfl hl.1 (Nat.le_of_ble_eq_true rfl) dX6_gives_16 (fun _ _ V => ?_)
    refine lv_if_eq (tgt := 47) hx hb dX6_gives_19 (by decide) (fun hc => ?_) (fun hc => ?_)
    · replace hF := dx_ib_f (dx_bI_0 hc) hF
      replace hF := Option.some.inj hF
      subst hF
      exact mo_rv S V hr hlocks dX6_gives_47
    · replace hF := dx_ib_t (dx_bI_n hc) hF
      refine lv_aload_n hx hb dX6_gives_22 rfl (lv_at hl 0 rfl) ?_
      refine mo_get S V 20 (by decide) rfl q1635 rfl dX6_gives_23 ?_
      refine lv_iload_n hx hb dX6_gives_26 rfl (lv_at hl 3 rfl) ?_
      refine lv_dup2_11 hx hb dX6_gives_27 rfl rfl ?_
      obtain ⟨hg, hF⟩ := dx_gd_some hF
      refine mo_ld S V 11 (by decide) (dx_inb_in hg) dX6_gives_28 ?_
      refine lv_iconst (v := 1) hx hb dX6_gives_29 (by decide) ?_
      refine lv_iload hx hb dX6_gives_30 (lv_at hl 4 rfl) ?_
      refine lv_ishl hx hb dX6_gives_32 ?_
      refine lv_ior hx hb dX6_gives_33 ?_
      obtain ⟨hg, hF⟩ := dx_gd_some hF
      refine mo_st S V 11 (by decide) (dx_inb_in hg) dX6_gives_34 (fun _ _ V => ?_)
      refine lv_aload_n hx hb dX6_gives_35 rfl (lv_at hl 0 rfl) ?_
      refine mo_get S V 21 (by decide) rfl q1636 rfl dX6_gives_36 ?_
      refine lv_iload_n hx hb dX6_gives_39 rfl (lv_at hl 3 rfl) ?_
      refine lv_dup2_11 hx hb dX6_gives_40 rfl rfl ?_
      obtain ⟨hg, hF⟩ := dx_gd_some hF
      refine mo_ld S V 12 (by decide) (dx_inb_in hg) dX6_gives_41 ?_
      refine lv_iconst (v := 1) hx hb dX6_gives_42 (by decide) ?_
      refine lv_iload_n hx hb dX6_gives_43 rfl (lv_at hl 2 rfl) ?_
      refine lv_ishl hx hb dX6_gives_44 ?_
      refine lv_ior hx hb dX6_gives_45 ?_
      obtain ⟨hg, hF⟩ := dx_gd_some hF
      refine mo_st S V 12 (by decide) (dx_inb_in hg) dX6_gives_46 (fun _ _ V => ?_)
      replace hF := Option.some.inj hF
      subst hF
      exact mo_rv S V hr hlocks dX6_gives_47
theorem mo_d_walks : yX6_walks.cls = RX6 ∧ yX6_walks.cls ≠ "java/lang/invoke/MethodHandle" ∧ yX6_walks.cls ≠ "java/lang/invoke/VarHandle" ∧ (parseMethodDescriptor yX6_walks.desc).map (fun d => d.parameters.length) = some 4 := by decide +kernel
set_option maxHeartbeats 4000000 in
set_option maxRecDepth 100000 in
theorem mo_m_walks (l : Launch) (D : va_G) (di dz : ClassId) (h : Nat) (ad : Nat → Nat) (A : Nat → Prop) (k0 : Nat) (hk0 : k0 < 17 ∧ ¬ k0 = 10) (p1 : Int32) (p2 : Int32) (p3 : Int32) (σ0 : mo_S) (σ' : mo_S) (hF : mo_walks k0 σ0 p1 p2 p3 = some σ') : mo_Cv l yX6_walks cX6_walks 8 ({ frames := 4, cells := 0, slots := 0, locals := 96 }) D di dz h ad A [.ref h, .ref (ad k0), .int p1, .int p2, .int p3] σ0 σ' := by
  refine dx_in RX6 rfl (by decide) (Nat.le_of_ble_eq_true rfl) ?_
  intro p e s m below meth c ls S hr hlocks hv hl
  have hx := S.1
  have hb := S.2.1
  have hown := S.2.2.2.1
  have hts := S.2.2.2.2
  obtain ⟨hK, hP, hD⟩ := hv
  have V : mo_V D di dz h ad A s.heap σ0 s s.heap [] := ⟨hK, hP, hD, va_S.rf⟩
  replace hl : lv_has ls 8 [(0, .ref h), (1, .ref (ad k0)), (2, .int p1), (3, .int p2), (4, .int p3)] := hl
  unfold mo_walks at hF
  have hL49 : ∀ (v4 : Int32) (n : Nat) (v5 : Int32) (σ : mo_S) (H : Heap) (locs : List Loc) (ls : Array Slot), dx_lp (fun x => mo_walks_L49 k0 x.2 v4 x.1) n (v5, σ) = some σ' → mo_V D di dz h ad A s.heap σ s H locs → lv_has ls 8 [(0, .ref h), (1, .ref (ad k0)), (4, .int v4), (5, .int v5)] → W p l e ({ frames := 4, cells := 0, slots := 0, locals := 96 }) s m ([.ref h, .ref (ad k0), .int p1, .int p2, .int p3] : List Value).toArray below meth c H locs 0 0 (MQ below (mo_Qv D di dz h ad A σ') ([.ref h, .ref (ad k0), .int p1, .int p2, .int p3] : List Value).toArray s 0 0 A) (F0 m 49 ls []) := by
    intro v4 n
    induction n with
    | zero =>
      intro v5 σ H locs ls hF V hl
      exact (dx_lp_0 hF).elim
    | succ n ih49 =>
      intro v5 σ H locs ls hF V hl
      obtain ⟨y49, hF, hz49⟩ := dx_lp_s hF
      replace hF : mo_walks_L49 k0 σ v4 v5 = some y49 := hF
      unfold mo_walks_L49 at hF
      have hL59 : ∀ (v5 : Int32) (n : Nat) (v6 : Int32) (σ : mo_S) (H : Heap) (locs : List Loc) (ls : Array Slot), dx_lp (fun x => mo_walks_L59 k0 x.2 v4 v5 x.1) n (v6, σ) = some y49 → mo_V D di dz h ad A s.heap σ s H locs → lv_has ls 8 [(0, .ref h), (1, .ref (ad k0)), (4, .int v4), (5, .int v5), (6, .int v6)] → W p l e ({ frames := 4, cells := 0, slots := 0, locals := 96 }) s m ([.ref h, .ref (ad k0), .int p1, .int p2, .int p3] : List Value).toArray below meth c H locs 0 0 (MQ below (mo_Qv D di dz h ad A σ') ([.ref h, .ref (ad k0), .int p1, .int p2, .int p3] : List Value).toArray s 0 0 A) (F0 m 59 ls []) := by
        intro v5 n
        induction n with
        | zero =>
          intro v6 σ H locs ls hF V hl
          exact (dx_lp_0 hF).elim
        | succ n ih59 =>
          intro v6 σ H locs ls hF V hl
          obtain ⟨y59, hF, hz59⟩ := dx_lp_s hF
          replace hF : mo_walks_L59 k0 σ v4 v5 v6 = some y59 := hF
          unfold mo_walks_L59 at hF
          refine lv_iload hx hb dX6_walks_59 (lv_at hl 4 rfl) ?_
          refine lv_aload_n hx hb dX6_walks_61 rfl (lv_at hl 1 rfl) ?_
          refine lv_iconst (v := 1) hx hb dX6_walks_62 (by decide) ?_
          obtain ⟨hg, hF⟩ := dx_gd_some hF
          refine mo_ld S V k0 hk0 (dx_inb_in hg) dX6_walks_63 ?_
          refine lv_icmp_ge (tgt := 137) hx hb dX6_walks_64 (by decide) (fun hc => ?_) (fun hc => ?_)
          · replace hF := (if_pos hc).symm.trans hF
            replace hF := dx_ex_k hF hz59
            refine lv_iinc (v := (v5 + (1 : Int32))) (lv' := [(5, .int (v5 + (1 : Int32))), (0, .ref h), (1, .ref (ad k0)), (4, .int v4), (6, .int v6)]) hx hb dX6_walks_137 hl (k := 3) rfl rfl (by decide) rfl (fun ls hl => ?_)
            refine lv_goto (tgt := 49) hx hb dX6_walks_140 (by decide) ?_
            replace hF := Option.some.inj hF
            subst hF
            exact ih49 (v5 + (1 : Int32)) σ _ _ _ (dx_lk_l hz49) V (lv_sub hl [1, 2, 3, 0] rfl)
          · replace hF := (if_neg hc).symm.trans hF
            refine lv_bipush (v := 22) hx hb dX6_walks_67 (by decide) ?_
            refine lv_iconst (v := 3) hx hb dX6_walks_69 (by decide) ?_
            refine lv_iload hx hb dX6_walks_70 (lv_at hl 4 rfl) ?_
            refine lv_imul hx hb dX6_walks_72 ?_
            refine lv_iadd hx hb dX6_walks_73 ?_
            refine lv_istore (lv' := [(7, .int ((22 : Int32) + ((3 : Int32) * v6))), (0, .ref h), (1, .ref (ad k0)), (4, .int v4), (5, .int v5), (6, .int v6)]) hx hb dX6_walks_74 hl (by decide) rfl (fun ls hl => ?_)
            refine lv_aload_n hx hb dX6_walks_76 rfl (lv_at hl 2 rfl) ?_
            refine lv_iload hx hb dX6_walks_77 (lv_at hl 0 rfl) ?_
            refine lv_iconst (v := 2) hx hb dX6_walks_79 (by decide) ?_
            refine lv_iadd hx hb dX6_walks_80 ?_
            obtain ⟨hg, hF⟩ := dx_gd_some hF
            refine mo_ld S V k0 hk0 (dx_inb_in hg) dX6_walks_81 ?_
            refine lv_iload hx hb dX6_walks_82 (lv_at hl 4 rfl) ?_
            refine lv_icmp_ne (tgt := 131) hx hb dX6_walks_84 (by decide) (fun hc => ?_) (fun hc => ?_)
            · replace hF := (if_neg hc).symm.trans hF
              refine lv_iinc (v := (v6 + (1 : Int32))) (lv' := [(6, .int (v6 + (1 : Int32))), (7, .int ((22 : Int32) + ((3 : Int32) * v6))), (0, .ref h), (1, .ref (ad k0)), (4, .int v4), (5, .int v5)]) hx hb dX6_walks_131 hl (k := 5) rfl rfl (by decide) rfl (fun ls hl => ?_)
              refine lv_goto (tgt := 59) hx hb dX6_walks_134 (by decide) ?_
              replace hF := Option.some.inj hF
              subst hF
              exact ih59 (v6 + (1 : Int32)) σ _ _ _ (dx_lk_l hz59) V (lv_sub hl [2, 3, 4, 5, 0] rfl)
            · replace hF := (if_pos hc).symm.trans hF
              refine lv_iload hx hb dX6_walks_87 (lv_at hl 3 rfl) ?_
              refine lv_iload hx hb dX6_walks_89 (lv_at hl 5 rfl) ?_
              obtain ⟨r1, h1c, hF⟩ := dx_b1_some hF
              refine dx_cPi S [.int v4, .int v6] (mo_m_has l v4 v6 _ h1c) (va_cwS 2 hts (lw_S q1887 q1888 q83 q1889) rfl rfl rfl mo_d_has ⟨Nat.le_of_ble_eq_true rfl, Nat.le_of_ble_eq_true rfl⟩) rfl rfl hl.1 (Nat.le_of_ble_eq_true rfl) dX6_walks_91 ⟨Nat.zero_le _, Nat.zero_le _⟩ ?_
              refine lv_if_ne (tgt := 131) hx hb dX6_walks_94 (by decide) (fun hc => ?_) (fun hc => ?_)
              · replace hF := dx_ib_t (dx_bI_n hc) hF
                refine lv_iinc (v := (v6 + (1 : Int32))) (lv' := [(6, .int (v6 + (1 : Int32))), (7, .int ((22 : Int32) + ((3 : Int32) * v6))), (0, .ref h), (1, .ref (ad k0)), (4, .int v4), (5, .int v5)]) hx hb dX6_walks_131 hl (k := 5) rfl rfl (by decide) rfl (fun ls hl => ?_)
                refine lv_goto (tgt := 59) hx hb dX6_walks_134 (by decide) ?_
                replace hF := Option.some.inj hF
                subst hF
                exact ih59 (v6 + (1 : Int32)) σ _ _ _ (dx_lk_l hz59) V (lv_sub hl [2, 3, 4, 5, 0] rfl)
              · replace hF := dx_ib_f (dx_bI_0 hc) hF
                refine lv_aload_n hx hb dX6_walks_97 rfl (lv_at hl 1 rfl) ?_
                refine lv_aload_n hx hb dX6_walks_98 rfl (lv_at hl 2 rfl) ?_
                refine lv_aload_n hx hb dX6_walks_99 rfl (lv_at hl 2 rfl) ?_
                refine lv_iload hx hb dX6_walks_100 (lv_at hl 0 rfl) ?_
                obtain ⟨hg, hF⟩ := dx_gd_some hF
                refine mo_ld S V k0 hk0 (dx_inb_in hg) dX6_walks_102 ?_
                refine lv_aload_n hx hb dX6_walks_103 rfl (lv_at hl 2 rfl) ?_
                refine lv_iload hx hb dX6_walks_104 (lv_at hl 0 rfl) ?_
                refine lv_iconst (v := 1) hx hb dX6_walks_106 (by decide) ?_
                refine lv_iadd hx hb dX6_walks_107 ?_
                obtain ⟨hg, hF⟩ := dx_gd_some hF
                refine mo_ld S V k0 hk0 (dx_inb_in hg) dX6_walks_108 ?_
                refine lv_iload hx hb dX6_walks_109 (lv_at hl 4 rfl) ?_
                obtain ⟨σ2, h2c, hF⟩ := dx_b1_some hF
                refine mo_cVv S V [.ref (ad k0), .int (σ.2 k0 ((22 : Int32) + ((3 : Int32) * v6)).toNatClampNeg), .int (σ.2 k0 (((22 : Int32) + ((3 : Int32) * v6)) + (1 : Int32)).toNatClampNeg), .int v5] (mo_m_gives l D di dz h ad A k0 hk0 (σ.2 k0 ((22 : Int32) + ((3 : Int32) * v6)).toNatClampNeg) (σ.2 k0 (((22 : Int32) + ((3 : Int32) * v6)) + (1 : Int32)).toNatClampNeg) v5 σ _ h2c) (cwV 4 hts (lw_V q1890 q1892 qs59 q83 q1893) rfl rfl rfl mo_d_gives ⟨Nat.le_of_ble_eq_true rfl, Nat.le_of_ble_eq_true rfl⟩) rfl rfl hl.1 (Nat.le_of_ble_eq_true rfl) dX6_walks_111 (fun _ _ V => ?_)
                refine lv_aload_n hx hb dX6_walks_114 rfl (lv_at hl 1 rfl) ?_
                refine lv_aload_n hx hb dX6_walks_115 rfl (lv_at hl 2 rfl) ?_
                refine lv_aload_n hx hb dX6_walks_116 rfl (lv_at hl 2 rfl) ?_
                refine lv_iload hx hb dX6_walks_117 (lv_at hl 0 rfl) ?_
                refine lv_iconst (v := 1) hx hb dX6_walks_119 (by decide) ?_
                refine lv_iadd hx hb dX6_walks_120 ?_
                obtain ⟨hg, hF⟩ := dx_gd_some hF
                refine mo_ld S V k0 hk0 (dx_inb_in hg) dX6_walks_121 ?_
                refine lv_aload_n hx hb dX6_walks_122 rfl (lv_at hl 2 rfl) ?_
                refine lv_iload hx hb dX6_walks_123 (lv_at hl 0 rfl) ?_
                obtain ⟨hg, hF⟩ := dx_gd_some hF
                refine mo_ld S V k0 hk0 (dx_inb_in hg) dX6_walks_125 ?_
                refine lv_iload hx hb dX6_walks_126 (lv_at hl 4 rfl) ?_
                obtain ⟨σ3, h3c, hF⟩ := dx_b1_some hF
                refine mo_cVv S V [.ref (ad k0), .int (σ2.2 k0 (((22 : Int32) + ((3 : Int32) * v6)) + (1 : Int32)).toNatClampNeg), .int (σ2.2 k0 ((22 : Int32) + ((3 : Int32) * v6)).toNatClampNeg), .int v5] (mo_m_gives l D di dz h ad A k0 hk0 (σ2.2 k0 (((22 : Int32) + ((3 : Int32) * v6)) + (1 : Int32)).toNatClampNeg) (σ2.2 k0 ((22 : Int32) + ((3 : Int32) * v6)).toNatClampNeg) v5 σ2 _ h3c) (cwV 4 hts (lw_V q1890 q1892 qs59 q83 q1893) rfl rfl rfl mo_d_gives ⟨Nat.le_of_ble_eq_true rfl, Nat.le_of_ble_eq_true rfl⟩) rfl rfl hl.1 (Nat.le_of_ble_eq_true rfl) dX6_walks_128 (fun _ _ V => ?_)
                refine lv_iinc (v := (v6 + (1 : Int32))) (lv' := [(6, .int (v6 + (1 : Int32))), (7, .int ((22 : Int32) + ((3 : Int32) * v6))), (0, .ref h), (1, .ref (ad k0)), (4, .int v4), (5, .int v5)]) hx hb dX6_walks_131 hl (k := 5) rfl rfl (by decide) rfl (fun ls hl => ?_)
                refine lv_goto (tgt := 59) hx hb dX6_walks_134 (by decide) ?_
                replace hF := Option.some.inj hF
                subst hF
                exact ih59 (v6 + (1 : Int32)) σ3 _ _ _ (dx_lk_l hz59) V (lv_sub hl [2, 3, 4, 5, 0] rfl)
      refine lv_iload hx hb dX6_walks_49 (lv_at hl 3 rfl) ?_
      refine lv_bipush (v := 31) hx hb dX6_walks_51 (by decide) ?_
      refine lv_icmp_ge (tgt := 143) hx hb dX6_walks_53 (by decide) (fun hc => ?_) (fun hc => ?_)
      · replace hF := (if_pos hc).symm.trans hF
        replace hF := dx_ex_k hF hz49
        replace hF := Option.some.inj hF
        subst hF
        exact mo_rv S V hr hlocks dX6_walks_143
      · replace hF := (if_neg hc).symm.trans hF
        refine lv_iconst (v := 0) hx hb dX6_walks_56 (by decide) ?_
        refine lv_istore (lv' := [(6, .int (0 : Int32)), (0, .ref h), (1, .ref (ad k0)), (4, .int v4), (5, .int v5)]) hx hb dX6_walks_57 hl (by decide) rfl (fun ls hl => ?_)
        exact hL59 v5 dx_fu (0 : Int32) σ _ _ _ hF V (lv_sub hl [1, 2, 3, 4, 0] rfl)
  have hL3 : ∀ (v2 : Int32) (v3 : Int32) (v4 : Int32) (n : Nat) (v5 : Int32) (σ : mo_S) (H : Heap) (locs : List Loc) (ls : Array Slot), dx_lp (fun x => mo_walks_L3 k0 x.2 v2 v3 v4 x.1) n (v5, σ) = some σ' → mo_V D di dz h ad A s.heap σ s H locs → lv_has ls 8 [(0, .ref h), (1, .ref (ad k0)), (2, .int v2), (3, .int v3), (4, .int v4), (5, .int v5)] → W p l e ({ frames := 4, cells := 0, slots := 0, locals := 96 }) s m ([.ref h, .ref (ad k0), .int p1, .int p2, .int p3] : List Value).toArray below meth c H locs 0 0 (MQ below (mo_Qv D di dz h ad A σ') ([.ref h, .ref (ad k0), .int p1, .int p2, .int p3] : List Value).toArray s 0 0 A) (F0 m 3 ls []) := by
    intro v2 v3 v4 n
    induction n with
    | zero =>
      intro v5 σ H locs ls hF V hl
      exact (dx_lp_0 hF).elim
    | succ n ih3 =>
      intro v5 σ H locs ls hF V hl
      obtain ⟨y3, hF, hz3⟩ := dx_lp_s hF
      replace hF : mo_walks_L3 k0 σ v2 v3 v4 v5 = some y3 := hF
      unfold mo_walks_L3 at hF
      have hJ29 : ∀ (σ : mo_S) (v5 : Int32) (t1 : Int32) (t2 : Int32) (H : Heap) (locs : List Loc) (ls : Array Slot), mo_walks_J29 k0 σ v2 v3 v4 v5 t1 t2 = some y3 → mo_V D di dz h ad A s.heap σ s H locs → lv_has ls 8 [(0, .ref h), (1, .ref (ad k0)), (2, .int v2), (3, .int v3), (4, .int v4), (5, .int v5)] → W p l e ({ frames := 4, cells := 0, slots := 0, locals := 96 }) s m ([.ref h, .ref (ad k0), .int p1, .int p2, .int p3] : List Value).toArray below meth c H locs 0 0 (MQ below (mo_Qv D di dz h ad A σ') ([.ref h, .ref (ad k0), .int p1, .int p2, .int p3] : List Value).toArray s 0 0 A) (F0 m 29 ls [.int t2, .int t1, .ref (ad 11)]) := by
        intro σ v5 t1 t2 H locs ls hF V hl
        unfold mo_walks_J29 at hF
        obtain ⟨hg, hF⟩ := dx_gd_some hF
        refine mo_st S V 11 (by decide) (dx_inb_in hg) dX6_walks_29 (fun _ _ V => ?_)
        refine lv_aload_n hx hb dX6_walks_30 rfl (lv_at hl 0 rfl) ?_
        refine mo_get S V 21 (by decide) rfl q1636 rfl dX6_walks_31 ?_
        refine lv_iload hx hb dX6_walks_34 (lv_at hl 5 rfl) ?_
        refine lv_iconst (v := 0) hx hb dX6_walks_36 (by decide) ?_
        obtain ⟨hg, hF⟩ := dx_gd_some hF
        refine mo_st S V 12 (by decide) (dx_inb_in hg) dX6_walks_37 (fun _ _ V => ?_)
        refine lv_iinc (v := (v5 + (1 : Int32))) (lv' := [(5, .int (v5 + (1 : Int32))), (0, .ref h), (1, .ref (ad k0)), (2, .int v2), (3, .int v3), (4, .int v4)]) hx hb dX6_walks_38 hl (k := 5) rfl rfl (by decide) rfl (fun ls hl => ?_)
        refine lv_goto (tgt := 3) hx hb dX6_walks_41 (by decide) ?_
        replace hF := Option.some.inj hF
        subst hF
        exact ih3 (v5 + (1 : Int32)) (mo_A (mo_A σ 11 t1.toNatClampNeg t2) 12 v5.toNatClampNeg (0 : Int32)) _ _ _ (dx_lk_l hz3) V (lv_sub hl [1, 2, 3, 4, 5, 0] rfl)
      refine lv_iload hx hb dX6_walks_3 (lv_at hl 5 rfl) ?_
      refine lv_bipush (v := 9) hx hb dX6_walks_5 (by decide) ?_
      refine lv_icmp_ge (tgt := 44) hx hb dX6_walks_7 (by decide) (fun hc => ?_) (fun hc => ?_)
      · replace hF := (if_pos hc).symm.trans hF
        replace hF := dx_ex_k hF hz3
        refine lv_iload_n hx hb dX6_walks_44 rfl (lv_at hl 3 rfl) ?_
        refine lv_iconst (v := 1) hx hb dX6_walks_45 (by decide) ?_
        refine lv_iadd hx hb dX6_walks_46 ?_
        refine lv_istore (lv' := [(5, .int (v3 + (1 : Int32))), (0, .ref h), (1, .ref (ad k0)), (2, .int v2), (3, .int v3), (4, .int v4)]) hx hb dX6_walks_47 hl (by decide) rfl (fun ls hl => ?_)
        exact hL49 v4 dx_fu (v3 + (1 : Int32)) σ _ _ _ hF V (lv_sub hl [1, 2, 5, 0] rfl)
      · replace hF := (if_neg hc).symm.trans hF
        refine lv_aload_n hx hb dX6_walks_10 rfl (lv_at hl 0 rfl) ?_
        refine mo_get S V 20 (by decide) rfl q1635 rfl dX6_walks_11 ?_
        refine lv_iload hx hb dX6_walks_14 (lv_at hl 5 rfl) ?_
        refine lv_iload hx hb dX6_walks_16 (lv_at hl 5 rfl) ?_
        refine lv_iload_n hx hb dX6_walks_18 rfl (lv_at hl 2 rfl) ?_
        refine lv_icmp_ne (tgt := 28) hx hb dX6_walks_19 (by decide) (fun hc => ?_) (fun hc => ?_)
        · replace hF := (if_neg hc).symm.trans hF
          refine lv_iconst (v := 0) hx hb dX6_walks_28 (by decide) ?_
          exact hJ29 σ v5 v5 (0 : Int32) _ _ _ hF V (lv_sub hl [0, 1, 2, 3, 4, 5] rfl)
        · replace hF := (if_pos hc).symm.trans hF
          refine lv_iconst (v := 1) hx hb dX6_walks_22 (by decide) ?_
          refine lv_iload_n hx hb dX6_walks_23 rfl (lv_at hl 3 rfl) ?_
          refine lv_ishl hx hb dX6_walks_24 ?_
          refine lv_goto (tgt := 29) hx hb dX6_walks_25 (by decide) ?_
          exact hJ29 σ v5 v5 ((1 : Int32) <<< (v3 &&& 31)) _ _ _ hF V (lv_sub hl [0, 1, 2, 3, 4, 5] rfl)
  refine lv_iconst (v := 0) hx hb dX6_walks_0 (by decide) ?_
  refine lv_istore (lv' := [(5, .int (0 : Int32)), (0, .ref h), (1, .ref (ad k0)), (2, .int p1), (3, .int p2), (4, .int p3)]) hx hb dX6_walks_1 hl (by decide) rfl (fun ls hl => ?_)
  exact hL3 p1 p2 p3 dx_fu (0 : Int32) σ0 _ _ _ hF V (lv_sub hl [1, 2, 3, 4, 5, 0] rfl)
theorem mo_d_days : yX6_days.cls = RX6 ∧ yX6_days.cls ≠ "java/lang/invoke/MethodHandle" ∧ yX6_days.cls ≠ "java/lang/invoke/VarHandle" ∧ (parseMethodDescriptor yX6_days.desc).map (fun d => d.parameters.length) = some 3 := by decide +kernel
set_option maxHeartbeats 4000000 in
set_option maxRecDepth 100000 in
theorem mo_m_days (l : Launch) (D : va_G) (di dz : ClassId) (h : Nat) (ad : Nat → Nat) (A : Nat → Prop)  (p0 : Int32) (p1 : Int32) (p2 : Int32) (σ0 : mo_S) (r : Int32) (σ' : mo_S) (hF : mo_days σ0 p0 p1 p2 = some (r, σ')) : mo_Ci l yX6_days cX6_days 4 .int ({ frames := 5, cells := 0, slots := 0, locals := 123 }) D di dz h ad A [.ref h, .int p0, .int p1, .int p2] σ0 r σ' := by
  refine dx_in RX6 rfl (by decide) (Nat.le_of_ble_eq_true rfl) ?_
  intro p e s m below meth c ls S hr hlocks hv hl
  have hx := S.1
  have hb := S.2.1
  have hown := S.2.2.2.1
  have hts := S.2.2.2.2
  obtain ⟨hK, hP, hD⟩ := hv
  have V : mo_V D di dz h ad A s.heap σ0 s s.heap [] := ⟨hK, hP, hD, va_S.rf⟩
  replace hl : lv_has ls 4 [(0, .ref h), (1, .int p0), (2, .int p1), (3, .int p2)] := hl
  unfold mo_days at hF
  refine lv_aload_n hx hb dX6_days_0 rfl (lv_at hl 0 rfl) ?_
  refine lv_iload_n hx hb dX6_days_1 rfl (lv_at hl 1 rfl) ?_
  refine lv_iload_n hx hb dX6_days_2 rfl (lv_at hl 2 rfl) ?_
  obtain ⟨r1, h1c, hF⟩ := dx_b1_some hF
  refine mo_cVi S V [.int p0, .int p1] (mo_m_isFrom l D di dz h ad A  p0 p1 σ0 _ h1c) (cwV 2 hts (lw_V q1879 q1881 qs57 q83 q1882) rfl rfl rfl mo_d_isFrom ⟨Nat.le_of_ble_eq_true rfl, Nat.le_of_ble_eq_true rfl⟩) rfl rfl hl.1 (Nat.le_of_ble_eq_true rfl) dX6_days_3 (fun _ _ V => ?_)
  refine lv_if_eq (tgt := 17) hx hb dX6_days_6 (by decide) (fun hc => ?_) (fun hc => ?_)
  · replace hF := dx_ib_f (dx_bI_0 hc) hF
    refine lv_ldc hx hb hown (hts _ q1714) dX6_days_17 ?_
    obtain ⟨hF1, hF2⟩ := dx_r2 hF
    subst hF1
    subst hF2
    exact mo_ri S V hr hlocks rfl dX6_days_19
  · replace hF := dx_ib_t (dx_bI_n hc) hF
    refine lv_aload_n hx hb dX6_days_9 rfl (lv_at hl 0 rfl) ?_
    refine lv_iload_n hx hb dX6_days_10 rfl (lv_at hl 3 rfl) ?_
    obtain ⟨r2, h2c, hF⟩ := dx_b1_some hF
    refine mo_cVi S V [.int p2] (mo_m_isPerson l D di dz h ad A  p2 σ0 _ h2c) (cwV 1 hts (lw_V q1815 q1817 qs51 q83 q1818) rfl rfl rfl mo_d_isPerson ⟨Nat.le_of_ble_eq_true rfl, Nat.le_of_ble_eq_true rfl⟩) rfl rfl hl.1 (Nat.le_of_ble_eq_true rfl) dX6_days_11 (fun _ _ V => ?_)
    refine lv_if_ne (tgt := 20) hx hb dX6_days_14 (by decide) (fun hc => ?_) (fun hc => ?_)
    · replace hF := dx_ib_t (dx_bI_n hc) hF
      refine lv_aload_n hx hb dX6_days_20 rfl (lv_at hl 0 rfl) ?_
      refine lv_aload_n hx hb dX6_days_21 rfl (lv_at hl 0 rfl) ?_
      refine mo_get S V 13 (by decide) rfl q1628 rfl dX6_days_22 ?_
      refine lv_iload_n hx hb dX6_days_25 rfl (lv_at hl 1 rfl) ?_
      refine lv_iload_n hx hb dX6_days_26 rfl (lv_at hl 2 rfl) ?_
      refine lv_iconst (v := 0) hx hb dX6_days_27 (by decide) ?_
      obtain ⟨σ3, h3c, hF⟩ := dx_b1_some hF
      refine mo_cVv S V [.ref (ad 5), .int p0, .int p1, .int (0 : Int32)] (mo_m_walks l D di dz h ad A 5 (by decide) p0 p1 (0 : Int32) σ0 _ h3c) (cwV 4 hts (lw_V q1883 q1885 qs58 q83 q1886) rfl rfl rfl mo_d_walks ⟨Nat.le_of_ble_eq_true rfl, Nat.le_of_ble_eq_true rfl⟩) rfl rfl hl.1 (Nat.le_of_ble_eq_true rfl) dX6_days_28 (fun _ _ V => ?_)
      refine lv_aload_n hx hb dX6_days_31 rfl (lv_at hl 0 rfl) ?_
      refine mo_get S V 20 (by decide) rfl q1635 rfl dX6_days_32 ?_
      refine lv_iload_n hx hb dX6_days_35 rfl (lv_at hl 3 rfl) ?_
      obtain ⟨hg, hF⟩ := dx_gd_some hF
      refine mo_ld S V 11 (by decide) (dx_inb_in hg) dX6_days_36 ?_
      obtain ⟨hF1, hF2⟩ := dx_r2 hF
      subst hF1
      subst hF2
      exact mo_ri S V hr hlocks rfl dX6_days_37
    · replace hF := dx_ib_f (dx_bI_0 hc) hF
      refine lv_ldc hx hb hown (hts _ q1714) dX6_days_17 ?_
      obtain ⟨hF1, hF2⟩ := dx_r2 hF
      subst hF1
      subst hF2
      exact mo_ri S V hr hlocks rfl dX6_days_19
theorem mo_d_givers : yX6_givers.cls = RX6 ∧ yX6_givers.cls ≠ "java/lang/invoke/MethodHandle" ∧ yX6_givers.cls ≠ "java/lang/invoke/VarHandle" ∧ (parseMethodDescriptor yX6_givers.desc).map (fun d => d.parameters.length) = some 3 := by decide +kernel
set_option maxHeartbeats 4000000 in
set_option maxRecDepth 100000 in
theorem mo_m_givers (l : Launch) (D : va_G) (di dz : ClassId) (h : Nat) (ad : Nat → Nat) (A : Nat → Prop)  (p0 : Int32) (p1 : Int32) (p2 : Int32) (σ0 : mo_S) (r : Int32) (σ' : mo_S) (hF : mo_givers σ0 p0 p1 p2 = some (r, σ')) : mo_Ci l yX6_givers cX6_givers 4 .int ({ frames := 5, cells := 0, slots := 0, locals := 123 }) D di dz h ad A [.ref h, .int p0, .int p1, .int p2] σ0 r σ' := by
  refine dx_in RX6 rfl (by decide) (Nat.le_of_ble_eq_true rfl) ?_
  intro p e s m below meth c ls S hr hlocks hv hl
  have hx := S.1
  have hb := S.2.1
  have hown := S.2.2.2.1
  have hts := S.2.2.2.2
  obtain ⟨hK, hP, hD⟩ := hv
  have V : mo_V D di dz h ad A s.heap σ0 s s.heap [] := ⟨hK, hP, hD, va_S.rf⟩
  replace hl : lv_has ls 4 [(0, .ref h), (1, .int p0), (2, .int p1), (3, .int p2)] := hl
  unfold mo_givers at hF
  refine lv_aload_n hx hb dX6_givers_0 rfl (lv_at hl 0 rfl) ?_
  refine lv_iload_n hx hb dX6_givers_1 rfl (lv_at hl 1 rfl) ?_
  refine lv_iload_n hx hb dX6_givers_2 rfl (lv_at hl 2 rfl) ?_
  obtain ⟨r1, h1c, hF⟩ := dx_b1_some hF
  refine mo_cVi S V [.int p0, .int p1] (mo_m_isFrom l D di dz h ad A  p0 p1 σ0 _ h1c) (cwV 2 hts (lw_V q1879 q1881 qs57 q83 q1882) rfl rfl rfl mo_d_isFrom ⟨Nat.le_of_ble_eq_true rfl, Nat.le_of_ble_eq_true rfl⟩) rfl rfl hl.1 (Nat.le_of_ble_eq_true rfl) dX6_givers_3 (fun _ _ V => ?_)
  refine lv_if_eq (tgt := 17) hx hb dX6_givers_6 (by decide) (fun hc => ?_) (fun hc => ?_)
  · replace hF := dx_ib_f (dx_bI_0 hc) hF
    refine lv_ldc hx hb hown (hts _ q1714) dX6_givers_17 ?_
    obtain ⟨hF1, hF2⟩ := dx_r2 hF
    subst hF1
    subst hF2
    exact mo_ri S V hr hlocks rfl dX6_givers_19
  · replace hF := dx_ib_t (dx_bI_n hc) hF
    refine lv_aload_n hx hb dX6_givers_9 rfl (lv_at hl 0 rfl) ?_
    refine lv_iload_n hx hb dX6_givers_10 rfl (lv_at hl 3 rfl) ?_
    obtain ⟨r2, h2c, hF⟩ := dx_b1_some hF
    refine mo_cVi S V [.int p2] (mo_m_isPerson l D di dz h ad A  p2 σ0 _ h2c) (cwV 1 hts (lw_V q1815 q1817 qs51 q83 q1818) rfl rfl rfl mo_d_isPerson ⟨Nat.le_of_ble_eq_true rfl, Nat.le_of_ble_eq_true rfl⟩) rfl rfl hl.1 (Nat.le_of_ble_eq_true rfl) dX6_givers_11 (fun _ _ V => ?_)
    refine lv_if_ne (tgt := 20) hx hb dX6_givers_14 (by decide) (fun hc => ?_) (fun hc => ?_)
    · replace hF := dx_ib_t (dx_bI_n hc) hF
      refine lv_aload_n hx hb dX6_givers_20 rfl (lv_at hl 0 rfl) ?_
      refine lv_aload_n hx hb dX6_givers_21 rfl (lv_at hl 0 rfl) ?_
      refine mo_get S V 13 (by decide) rfl q1628 rfl dX6_givers_22 ?_
      refine lv_iload_n hx hb dX6_givers_25 rfl (lv_at hl 1 rfl) ?_
      refine lv_iload_n hx hb dX6_givers_26 rfl (lv_at hl 2 rfl) ?_
      refine lv_iconst (v := 0) hx hb dX6_givers_27 (by decide) ?_
      obtain ⟨σ3, h3c, hF⟩ := dx_b1_some hF
      refine mo_cVv S V [.ref (ad 5), .int p0, .int p1, .int (0 : Int32)] (mo_m_walks l D di dz h ad A 5 (by decide) p0 p1 (0 : Int32) σ0 _ h3c) (cwV 4 hts (lw_V q1883 q1885 qs58 q83 q1886) rfl rfl rfl mo_d_walks ⟨Nat.le_of_ble_eq_true rfl, Nat.le_of_ble_eq_true rfl⟩) rfl rfl hl.1 (Nat.le_of_ble_eq_true rfl) dX6_givers_28 (fun _ _ V => ?_)
      refine lv_aload_n hx hb dX6_givers_31 rfl (lv_at hl 0 rfl) ?_
      refine mo_get S V 21 (by decide) rfl q1636 rfl dX6_givers_32 ?_
      refine lv_iload_n hx hb dX6_givers_35 rfl (lv_at hl 3 rfl) ?_
      obtain ⟨hg, hF⟩ := dx_gd_some hF
      refine mo_ld S V 12 (by decide) (dx_inb_in hg) dX6_givers_36 ?_
      obtain ⟨hF1, hF2⟩ := dx_r2 hF
      subst hF1
      subst hF2
      exact mo_ri S V hr hlocks rfl dX6_givers_37
    · replace hF := dx_ib_f (dx_bI_0 hc) hF
      refine lv_ldc hx hb hown (hts _ q1714) dX6_givers_17 ?_
      obtain ⟨hF1, hF2⟩ := dx_r2 hF
      subst hF1
      subst hF2
      exact mo_ri S V hr hlocks rfl dX6_givers_19
theorem mo_d_whoOf : yX6_whoOf.cls = RX6 ∧ yX6_whoOf.cls ≠ "java/lang/invoke/MethodHandle" ∧ yX6_whoOf.cls ≠ "java/lang/invoke/VarHandle" ∧ (parseMethodDescriptor yX6_whoOf.desc).map (fun d => d.parameters.length) = some 2 := by decide +kernel
set_option maxHeartbeats 4000000 in
set_option maxRecDepth 100000 in
theorem mo_m_whoOf (l : Launch) (D : va_G) (di dz : ClassId) (h : Nat) (ad : Nat → Nat) (A : Nat → Prop)  (p0 : Int32) (p1 : Int32) (σ0 : mo_S) (r : Int32) (hF : mo_whoOf σ0 p0 p1 = some r) : mo_Ci l yX6_whoOf cX6_whoOf 3 .int ({ frames := 0, cells := 0, slots := 0, locals := 0 }) D di dz h ad A [.ref h, .int p0, .int p1] σ0 r σ0 := by
  refine dx_in RX6 rfl (by decide) (Nat.le_of_ble_eq_true rfl) ?_
  intro p e s m below meth c ls S hr hlocks hv hl
  have hx := S.1
  have hb := S.2.1
  have hown := S.2.2.2.1
  have hts := S.2.2.2.2
  obtain ⟨hK, hP, hD⟩ := hv
  have V : mo_V D di dz h ad A s.heap σ0 s s.heap [] := ⟨hK, hP, hD, va_S.rf⟩
  replace hl : lv_has ls 3 [(0, .ref h), (1, .int p0), (2, .int p1)] := hl
  unfold mo_whoOf at hF
  refine lv_aload_n hx hb dX6_whoOf_0 rfl (lv_at hl 0 rfl) ?_
  refine mo_get S V 13 (by decide) rfl q1628 rfl dX6_whoOf_1 ?_
  refine lv_bipush (v := 22) hx hb dX6_whoOf_4 (by decide) ?_
  refine lv_iconst (v := 3) hx hb dX6_whoOf_6 (by decide) ?_
  refine lv_iload_n hx hb dX6_whoOf_7 rfl (lv_at hl 1 rfl) ?_
  refine lv_imul hx hb dX6_whoOf_8 ?_
  refine lv_iadd hx hb dX6_whoOf_9 ?_
  refine lv_iload_n hx hb dX6_whoOf_10 rfl (lv_at hl 2 rfl) ?_
  refine lv_iadd hx hb dX6_whoOf_11 ?_
  obtain ⟨hg, hF⟩ := dx_gd_some hF
  refine mo_ld S V 5 (by decide) (dx_inb_in hg) dX6_whoOf_12 ?_
  replace hF := Option.some.inj hF
  subst hF
  exact mo_ri S V hr hlocks rfl dX6_whoOf_13
theorem mo_d_mayGive : yX6_mayGive.cls = RX6 ∧ yX6_mayGive.cls ≠ "java/lang/invoke/MethodHandle" ∧ yX6_mayGive.cls ≠ "java/lang/invoke/VarHandle" ∧ (parseMethodDescriptor yX6_mayGive.desc).map (fun d => d.parameters.length) = some 4 := by decide +kernel
set_option maxHeartbeats 4000000 in
set_option maxRecDepth 100000 in
theorem mo_m_mayGive (l : Launch) (D : va_G) (di dz : ClassId) (h : Nat) (ad : Nat → Nat) (A : Nat → Prop)  (p0 : Int32) (p1 : Int32) (p2 : Int32) (p3 : Int32) (σ0 : mo_S) (r : Bool) (hF : mo_mayGive σ0 p0 p1 p2 p3 = some r) : mo_Ci l yX6_mayGive cX6_mayGive 5 .boolean ({ frames := 2, cells := 0, slots := 0, locals := 47 }) D di dz h ad A [.ref h, .int p0, .int p1, .int p2, .int p3] σ0 (dx_bI r) σ0 := by
  refine dx_in RX6 rfl (by decide) (Nat.le_of_ble_eq_true rfl) ?_
  intro p e s m below meth c ls S hr hlocks hv hl
  have hx := S.1
  have hb := S.2.1
  have hown := S.2.2.2.1
  have hts := S.2.2.2.2
  obtain ⟨hK, hP, hD⟩ := hv
  have V : mo_V D di dz h ad A s.heap σ0 s s.heap [] := ⟨hK, hP, hD, va_S.rf⟩
  replace hl : lv_has ls 5 [(0, .ref h), (1, .int p0), (2, .int p1), (3, .int p2), (4, .int p3)] := hl
  unfold mo_mayGive at hF
  refine lv_aload_n hx hb dX6_mayGive_0 rfl (lv_at hl 0 rfl) ?_
  refine lv_iload_n hx hb dX6_mayGive_1 rfl (lv_at hl 3 rfl) ?_
  refine lv_iconst (v := 1) hx hb dX6_mayGive_2 (by decide) ?_
  refine lv_iload hx hb dX6_mayGive_3 (lv_at hl 4 rfl) ?_
  refine lv_isub hx hb dX6_mayGive_5 ?_
  obtain ⟨r1, h1c, hF⟩ := dx_b1_some hF
  refine mo_cVi S V [.int p2, .int ((1 : Int32) - p3)] (mo_m_whoOf l D di dz h ad A  p2 ((1 : Int32) - p3) σ0 _ h1c) (cwV 2 hts (lw_V q1913 q1915 qs62 q83 q1916) rfl rfl rfl mo_d_whoOf ⟨Nat.le_of_ble_eq_true rfl, Nat.le_of_ble_eq_true rfl⟩) rfl rfl hl.1 (Nat.le_of_ble_eq_true rfl) dX6_mayGive_6 (fun _ _ V => ?_)
  refine lv_iload_n hx hb dX6_mayGive_9 rfl (lv_at hl 1 rfl) ?_
  refine lv_icmp_ne (tgt := 62) hx hb dX6_mayGive_10 (by decide) (fun hc => ?_) (fun hc => ?_)
  · replace hF := (if_neg hc).symm.trans hF
    refine lv_iconst (v := 0) hx hb dX6_mayGive_62 (by decide) ?_
    replace hF := Option.some.inj hF
    subst hF
    exact mo_ri S V hr hlocks rfl dX6_mayGive_63
  · replace hF := (if_pos hc).symm.trans hF
    refine lv_aload_n hx hb dX6_mayGive_13 rfl (lv_at hl 0 rfl) ?_
    refine mo_get S V 13 (by decide) rfl q1628 rfl dX6_mayGive_14 ?_
    refine lv_iconst (v := 4) hx hb dX6_mayGive_17 (by decide) ?_
    refine lv_iconst (v := 2) hx hb dX6_mayGive_18 (by decide) ?_
    refine lv_aload_n hx hb dX6_mayGive_19 rfl (lv_at hl 0 rfl) ?_
    refine lv_iload_n hx hb dX6_mayGive_20 rfl (lv_at hl 3 rfl) ?_
    refine lv_iload hx hb dX6_mayGive_21 (lv_at hl 4 rfl) ?_
    obtain ⟨r2, h2c, hF⟩ := dx_b1_some hF
    refine mo_cVi S V [.int p2, .int p3] (mo_m_whoOf l D di dz h ad A  p2 p3 σ0 _ h2c) (cwV 2 hts (lw_V q1913 q1915 qs62 q83 q1916) rfl rfl rfl mo_d_whoOf ⟨Nat.le_of_ble_eq_true rfl, Nat.le_of_ble_eq_true rfl⟩) rfl rfl hl.1 (Nat.le_of_ble_eq_true rfl) dX6_mayGive_23 (fun _ _ V => ?_)
    refine lv_imul hx hb dX6_mayGive_26 ?_
    refine lv_iadd hx hb dX6_mayGive_27 ?_
    obtain ⟨hg, hF⟩ := dx_gd_some hF
    refine mo_ld S V 5 (by decide) (dx_inb_in hg) dX6_mayGive_28 ?_
    refine lv_iconst (v := 5) hx hb dX6_mayGive_29 (by decide) ?_
    refine lv_icmp_eq (tgt := 62) hx hb dX6_mayGive_30 (by decide) (fun hc => ?_) (fun hc => ?_)
    · replace hF := (if_pos hc).symm.trans hF
      refine lv_iconst (v := 0) hx hb dX6_mayGive_62 (by decide) ?_
      replace hF := Option.some.inj hF
      subst hF
      exact mo_ri S V hr hlocks rfl dX6_mayGive_63
    · replace hF := (if_neg hc).symm.trans hF
      refine lv_aload_n hx hb dX6_mayGive_33 rfl (lv_at hl 0 rfl) ?_
      refine mo_get S V 13 (by decide) rfl q1628 rfl dX6_mayGive_34 ?_
      refine lv_iload_n hx hb dX6_mayGive_37 rfl (lv_at hl 1 rfl) ?_
      refine lv_iload_n hx hb dX6_mayGive_38 rfl (lv_at hl 2 rfl) ?_
      refine lv_aload_n hx hb dX6_mayGive_39 rfl (lv_at hl 0 rfl) ?_
      refine mo_get S V 13 (by decide) rfl q1628 rfl dX6_mayGive_40 ?_
      refine lv_bipush (v := 22) hx hb dX6_mayGive_43 (by decide) ?_
      refine lv_iconst (v := 3) hx hb dX6_mayGive_45 (by decide) ?_
      refine lv_iload_n hx hb dX6_mayGive_46 rfl (lv_at hl 3 rfl) ?_
      refine lv_imul hx hb dX6_mayGive_47 ?_
      refine lv_iadd hx hb dX6_mayGive_48 ?_
      refine lv_iconst (v := 2) hx hb dX6_mayGive_49 (by decide) ?_
      refine lv_iadd hx hb dX6_mayGive_50 ?_
      obtain ⟨hg, hF⟩ := dx_gd_some hF
      refine mo_ld S V 5 (by decide) (dx_inb_in hg) dX6_mayGive_51 ?_
      obtain ⟨r3, h3c, hF⟩ := dx_b1_some hF
      refine mo_cSi S V [.ref (ad 5), .int p0, .int p1, .int (σ0.2 5 (((22 : Int32) + ((3 : Int32) * p2)) + (2 : Int32)).toNatClampNeg)] (mo_m_mayPass l D di dz h ad A 5 (by decide) p0 p1 (σ0.2 5 (((22 : Int32) + ((3 : Int32) * p2)) + (2 : Int32)).toNatClampNeg) σ0 _ h3c) (va_cwS 4 hts (lw_S q1898 q1899 q83 q1900) rfl rfl rfl mo_d_mayPass ⟨Nat.le_of_ble_eq_true rfl, Nat.le_of_ble_eq_true rfl⟩) rfl rfl hl.1 (Nat.le_of_ble_eq_true rfl) dX6_mayGive_52 (fun _ _ V => ?_)
      refine lv_if_eq (tgt := 62) hx hb dX6_mayGive_55 (by decide) (fun hc => ?_) (fun hc => ?_)
      · replace hF := dx_ib_f (dx_bI_0 hc) hF
        refine lv_iconst (v := 0) hx hb dX6_mayGive_62 (by decide) ?_
        replace hF := Option.some.inj hF
        subst hF
        exact mo_ri S V hr hlocks rfl dX6_mayGive_63
      · replace hF := dx_ib_t (dx_bI_n hc) hF
        refine lv_iconst (v := 1) hx hb dX6_mayGive_58 (by decide) ?_
        refine lv_goto (tgt := 63) hx hb dX6_mayGive_59 (by decide) ?_
        replace hF := Option.some.inj hF
        subst hF
        exact mo_ri S V hr hlocks rfl dX6_mayGive_63
theorem mo_d_fewest : yX6_fewest.cls = RX6 ∧ yX6_fewest.cls ≠ "java/lang/invoke/MethodHandle" ∧ yX6_fewest.cls ≠ "java/lang/invoke/VarHandle" ∧ (parseMethodDescriptor yX6_fewest.desc).map (fun d => d.parameters.length) = some 3 := by decide +kernel
set_option maxHeartbeats 4000000 in
set_option maxRecDepth 100000 in
theorem mo_m_fewest (l : Launch) (D : va_G) (di dz : ClassId) (h : Nat) (ad : Nat → Nat) (A : Nat → Prop)  (p0 : Int32) (p1 : Int32) (p2 : Int32) (σ0 : mo_S) (r : Int32) (hF : mo_fewest σ0 p0 p1 p2 = some r) : mo_Ci l yX6_fewest cX6_fewest 8 .int ({ frames := 3, cells := 0, slots := 0, locals := 71 }) D di dz h ad A [.ref h, .int p0, .int p1, .int p2] σ0 r σ0 := by
  refine dx_in RX6 rfl (by decide) (Nat.le_of_ble_eq_true rfl) ?_
  intro p e s m below meth c ls S hr hlocks hv hl
  have hx := S.1
  have hb := S.2.1
  have hown := S.2.2.2.1
  have hts := S.2.2.2.2
  obtain ⟨hK, hP, hD⟩ := hv
  have V : mo_V D di dz h ad A s.heap σ0 s s.heap [] := ⟨hK, hP, hD, va_S.rf⟩
  replace hl : lv_has ls 8 [(0, .ref h), (1, .int p0), (2, .int p1), (3, .int p2)] := hl
  unfold mo_fewest at hF
  have hL17 : ∀ (v1 : Int32) (v2 : Int32) (n : Nat) (v4 : Int32) (v5 : Int32) (H : Heap) (locs : List Loc) (ls : Array Slot), dx_lp (fun x => mo_fewest_L17 σ0 v1 v2 x.1 x.2) n (v4, v5) = some r → mo_V D di dz h ad A s.heap σ0 s H locs → lv_has ls 8 [(0, .ref h), (1, .int v1), (2, .int v2), (4, .int v4), (5, .int v5)] → W p l e ({ frames := 3, cells := 0, slots := 0, locals := 71 }) s m ([.ref h, .int p0, .int p1, .int p2] : List Value).toArray below meth c H locs 0 0 (MQ below (mo_Qi D di dz h ad A r σ0) ([.ref h, .int p0, .int p1, .int p2] : List Value).toArray s 0 0 A) (F0 m 17 ls []) := by
    intro v1 v2 n
    induction n with
    | zero =>
      intro v4 v5 H locs ls hF V hl
      exact (dx_lp_0 hF).elim
    | succ n ih17 =>
      intro v4 v5 H locs ls hF V hl
      obtain ⟨y17, hF, hz17⟩ := dx_lp_s hF
      replace hF : mo_fewest_L17 σ0 v1 v2 v4 v5 = some y17 := hF
      unfold mo_fewest_L17 at hF
      have hL31 : ∀ (v5 : Int32) (n : Nat) (v4 : Int32) (v6 : Int32) (H : Heap) (locs : List Loc) (ls : Array Slot), dx_lp (fun x => mo_fewest_L31 σ0 v1 v2 v5 x.1 x.2) n (v4, v6) = some y17 → mo_V D di dz h ad A s.heap σ0 s H locs → lv_has ls 8 [(0, .ref h), (1, .int v1), (2, .int v2), (4, .int v4), (5, .int v5), (6, .int v6)] → W p l e ({ frames := 3, cells := 0, slots := 0, locals := 71 }) s m ([.ref h, .int p0, .int p1, .int p2] : List Value).toArray below meth c H locs 0 0 (MQ below (mo_Qi D di dz h ad A r σ0) ([.ref h, .int p0, .int p1, .int p2] : List Value).toArray s 0 0 A) (F0 m 31 ls []) := by
        intro v5 n
        induction n with
        | zero =>
          intro v4 v6 H locs ls hF V hl
          exact (dx_lp_0 hF).elim
        | succ n ih31 =>
          intro v4 v6 H locs ls hF V hl
          obtain ⟨y31, hF, hz31⟩ := dx_lp_s hF
          replace hF : mo_fewest_L31 σ0 v1 v2 v5 v4 v6 = some y31 := hF
          unfold mo_fewest_L31 at hF
          have hJ70 : ∀ (v4 : Int32) (v6 : Int32) (t0 : Int32) (H : Heap) (locs : List Loc) (ls : Array Slot), mo_fewest_J70 σ0 v1 v2 v4 v5 v6 t0 = some y31 → mo_V D di dz h ad A s.heap σ0 s H locs → lv_has ls 8 [(0, .ref h), (1, .int v1), (2, .int v2), (4, .int v4), (5, .int v5), (6, .int v6)] → W p l e ({ frames := 3, cells := 0, slots := 0, locals := 71 }) s m ([.ref h, .int p0, .int p1, .int p2] : List Value).toArray below meth c H locs 0 0 (MQ below (mo_Qi D di dz h ad A r σ0) ([.ref h, .int p0, .int p1, .int p2] : List Value).toArray s 0 0 A) (F0 m 70 ls [.int t0]) := by
            intro v4 v6 t0 H locs ls hF V hl
            unfold mo_fewest_J70 at hF
            refine lv_istore (lv' := [(7, .int t0), (0, .ref h), (1, .int v1), (2, .int v2), (4, .int v4), (5, .int v5), (6, .int v6)]) hx hb dX6_fewest_70 hl (by decide) rfl (fun ls hl => ?_)
            refine lv_iload hx hb dX6_fewest_72 (lv_at hl 0 rfl) ?_
            refine lv_iload hx hb dX6_fewest_74 (lv_at hl 4 rfl) ?_
            refine lv_icmp_ge (tgt := 84) hx hb dX6_fewest_76 (by decide) (fun hc => ?_) (fun hc => ?_)
            · replace hF := (if_pos hc).symm.trans hF
              refine lv_iload hx hb dX6_fewest_84 (lv_at hl 4 rfl) ?_
              refine lv_istore (lv' := [(4, .int v4), (7, .int t0), (0, .ref h), (1, .int v1), (2, .int v2), (5, .int v5), (6, .int v6)]) hx hb dX6_fewest_86 hl (by decide) rfl (fun ls hl => ?_)
              refine lv_iinc (v := (v6 + (1 : Int32))) (lv' := [(6, .int (v6 + (1 : Int32))), (4, .int v4), (7, .int t0), (0, .ref h), (1, .int v1), (2, .int v2), (5, .int v5)]) hx hb dX6_fewest_88 hl (k := 6) rfl rfl (by decide) rfl (fun ls hl => ?_)
              refine lv_goto (tgt := 31) hx hb dX6_fewest_91 (by decide) ?_
              replace hF := Option.some.inj hF
              subst hF
              exact ih31 v4 (v6 + (1 : Int32)) _ _ _ (dx_lk_l hz31) V (lv_sub hl [3, 4, 5, 1, 6, 0] rfl)
            · replace hF := (if_neg hc).symm.trans hF
              refine lv_iload hx hb dX6_fewest_79 (lv_at hl 0 rfl) ?_
              refine lv_goto (tgt := 86) hx hb dX6_fewest_81 (by decide) ?_
              refine lv_istore (lv' := [(4, .int t0), (7, .int t0), (0, .ref h), (1, .int v1), (2, .int v2), (5, .int v5), (6, .int v6)]) hx hb dX6_fewest_86 hl (by decide) rfl (fun ls hl => ?_)
              refine lv_iinc (v := (v6 + (1 : Int32))) (lv' := [(6, .int (v6 + (1 : Int32))), (4, .int t0), (7, .int t0), (0, .ref h), (1, .int v1), (2, .int v2), (5, .int v5)]) hx hb dX6_fewest_88 hl (k := 6) rfl rfl (by decide) rfl (fun ls hl => ?_)
              refine lv_goto (tgt := 31) hx hb dX6_fewest_91 (by decide) ?_
              replace hF := Option.some.inj hF
              subst hF
              exact ih31 t0 (v6 + (1 : Int32)) _ _ _ (dx_lk_l hz31) V (lv_sub hl [3, 4, 5, 1, 6, 0] rfl)
          refine lv_iload hx hb dX6_fewest_31 (lv_at hl 5 rfl) ?_
          refine lv_iconst (v := 2) hx hb dX6_fewest_33 (by decide) ?_
          refine lv_icmp_ge (tgt := 94) hx hb dX6_fewest_34 (by decide) (fun hc => ?_) (fun hc => ?_)
          · replace hF := (if_pos hc).symm.trans hF
            replace hF := dx_ex_k hF hz31
            refine lv_iinc (v := (v5 + (1 : Int32))) (lv' := [(5, .int (v5 + (1 : Int32))), (0, .ref h), (1, .int v1), (2, .int v2), (4, .int v4), (6, .int v6)]) hx hb dX6_fewest_94 hl (k := 4) rfl rfl (by decide) rfl (fun ls hl => ?_)
            refine lv_goto (tgt := 17) hx hb dX6_fewest_97 (by decide) ?_
            replace hF := Option.some.inj hF
            subst hF
            exact ih17 v4 (v5 + (1 : Int32)) _ _ _ (dx_lk_l hz17) V (lv_sub hl [1, 2, 3, 4, 0] rfl)
          · replace hF := (if_neg hc).symm.trans hF
            refine lv_aload_n hx hb dX6_fewest_37 rfl (lv_at hl 0 rfl) ?_
            refine lv_iload_n hx hb dX6_fewest_38 rfl (lv_at hl 1 rfl) ?_
            refine lv_iload_n hx hb dX6_fewest_39 rfl (lv_at hl 2 rfl) ?_
            refine lv_iload hx hb dX6_fewest_40 (lv_at hl 4 rfl) ?_
            refine lv_iload hx hb dX6_fewest_42 (lv_at hl 5 rfl) ?_
            obtain ⟨r1, h1c, hF⟩ := dx_b1_some hF
            refine mo_cVi S V [.int v1, .int v2, .int v5, .int v6] (mo_m_mayGive l D di dz h ad A  v1 v2 v5 v6 σ0 _ h1c) (cwV 4 hts (lw_V q1921 q1923 qs64 q83 q1924) rfl rfl rfl mo_d_mayGive ⟨Nat.le_of_ble_eq_true rfl, Nat.le_of_ble_eq_true rfl⟩) rfl rfl hl.1 (Nat.le_of_ble_eq_true rfl) dX6_fewest_44 (fun _ _ V => ?_)
            refine lv_if_eq (tgt := 67) hx hb dX6_fewest_47 (by decide) (fun hc => ?_) (fun hc => ?_)
            · replace hF := dx_ib_f (dx_bI_0 hc) hF
              refine lv_sipush (v := 1000) hx hb dX6_fewest_67 (by decide) ?_
              exact hJ70 v4 v6 (1000 : Int32) _ _ _ hF V (lv_sub hl [0, 1, 2, 3, 4, 5] rfl)
            · replace hF := dx_ib_t (dx_bI_n hc) hF
              refine lv_iconst (v := 1) hx hb dX6_fewest_50 (by decide) ?_
              refine lv_aload_n hx hb dX6_fewest_51 rfl (lv_at hl 0 rfl) ?_
              refine mo_get S V 22 (by decide) rfl q1637 rfl dX6_fewest_52 ?_
              refine lv_iconst (v := 2) hx hb dX6_fewest_55 (by decide) ?_
              refine lv_iload hx hb dX6_fewest_56 (lv_at hl 4 rfl) ?_
              refine lv_imul hx hb dX6_fewest_58 ?_
              refine lv_iload hx hb dX6_fewest_59 (lv_at hl 5 rfl) ?_
              refine lv_iadd hx hb dX6_fewest_61 ?_
              obtain ⟨hg, hF⟩ := dx_gd_some hF
              refine mo_ld S V 13 (by decide) (dx_inb_in hg) dX6_fewest_62 ?_
              refine lv_iadd hx hb dX6_fewest_63 ?_
              refine lv_goto (tgt := 70) hx hb dX6_fewest_64 (by decide) ?_
              exact hJ70 v4 v6 ((1 : Int32) + (σ0.2 13 (((2 : Int32) * v5) + v6).toNatClampNeg)) _ _ _ hF V (lv_sub hl [0, 1, 2, 3, 4, 5] rfl)
      refine lv_iload hx hb dX6_fewest_17 (lv_at hl 4 rfl) ?_
      refine lv_aload_n hx hb dX6_fewest_19 rfl (lv_at hl 0 rfl) ?_
      refine mo_get S V 13 (by decide) rfl q1628 rfl dX6_fewest_20 ?_
      refine lv_iconst (v := 1) hx hb dX6_fewest_23 (by decide) ?_
      refine mo_ld S V 5 (by decide) (dx_inb_in rfl) dX6_fewest_24 ?_
      refine lv_icmp_ge (tgt := 100) hx hb dX6_fewest_25 (by decide) (fun hc => ?_) (fun hc => ?_)
      · replace hF := (if_pos hc).symm.trans hF
        replace hF := dx_ex_k hF hz17
        refine lv_iload hx hb dX6_fewest_100 (lv_at hl 3 rfl) ?_
        replace hF := Option.some.inj hF
        subst hF
        exact mo_ri S V hr hlocks rfl dX6_fewest_102
      · replace hF := (if_neg hc).symm.trans hF
        refine lv_iconst (v := 0) hx hb dX6_fewest_28 (by decide) ?_
        refine lv_istore (lv' := [(6, .int (0 : Int32)), (0, .ref h), (1, .int v1), (2, .int v2), (4, .int v4), (5, .int v5)]) hx hb dX6_fewest_29 hl (by decide) rfl (fun ls hl => ?_)
        exact hL31 v5 dx_fu v4 (0 : Int32) _ _ _ hF V (lv_sub hl [1, 2, 3, 4, 5, 0] rfl)
  refine lv_iload_n hx hb dX6_fewest_0 rfl (lv_at hl 1 rfl) ?_
  refine lv_iload_n hx hb dX6_fewest_1 rfl (lv_at hl 3 rfl) ?_
  refine lv_icmp_ne (tgt := 9) hx hb dX6_fewest_2 (by decide) (fun hc => ?_) (fun hc => ?_)
  · replace hF := (if_neg hc).symm.trans hF
    refine lv_sipush (v := 1000) hx hb dX6_fewest_9 (by decide) ?_
    refine lv_istore (lv' := [(4, .int (1000 : Int32)), (0, .ref h), (1, .int p0), (2, .int p1), (3, .int p2)]) hx hb dX6_fewest_12 hl (by decide) rfl (fun ls hl => ?_)
    refine lv_iconst (v := 0) hx hb dX6_fewest_14 (by decide) ?_
    refine lv_istore (lv' := [(5, .int (0 : Int32)), (4, .int (1000 : Int32)), (0, .ref h), (1, .int p0), (2, .int p1), (3, .int p2)]) hx hb dX6_fewest_15 hl (by decide) rfl (fun ls hl => ?_)
    exact hL17 p0 p1 dx_fu (1000 : Int32) (0 : Int32) _ _ _ hF V (lv_sub hl [2, 3, 4, 1, 0] rfl)
  · replace hF := (if_pos hc).symm.trans hF
    refine lv_iconst (v := 0) hx hb dX6_fewest_5 (by decide) ?_
    refine lv_goto (tgt := 12) hx hb dX6_fewest_6 (by decide) ?_
    refine lv_istore (lv' := [(4, .int (0 : Int32)), (0, .ref h), (1, .int p0), (2, .int p1), (3, .int p2)]) hx hb dX6_fewest_12 hl (by decide) rfl (fun ls hl => ?_)
    refine lv_iconst (v := 0) hx hb dX6_fewest_14 (by decide) ?_
    refine lv_istore (lv' := [(5, .int (0 : Int32)), (4, .int (0 : Int32)), (0, .ref h), (1, .int p0), (2, .int p1), (3, .int p2)]) hx hb dX6_fewest_15 hl (by decide) rfl (fun ls hl => ?_)
    exact hL17 p0 p1 dx_fu (0 : Int32) (0 : Int32) _ _ _ hF V (lv_sub hl [2, 3, 4, 1, 0] rfl)
