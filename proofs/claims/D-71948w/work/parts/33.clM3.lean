/-! the class side read back and walked (printed by gen/clmain.py) -/
theorem cd_X0_window : yX0_window.cls ≠ "java/lang/invoke/MethodHandle" ∧ yX0_window.cls ≠ "java/lang/invoke/VarHandle" ∧ (parseMethodDescriptor yX0_window.desc).map (fun d => d.parameters.length) = some 2 := by decide +kernel
set_option maxHeartbeats 4000000 in
set_option maxRecDepth 100000 in
theorem cm_X0_window (l : Launch) (D : va_G) (dA : Nat → ClassId) (ad0 : Nat → Nat) (A : Nat → Prop) (a0 : Nat) (o0 : Nat) (p0 : Int32) (p1 : Int32) (σ0 : cl_S) (r : Int32) (σ' : cl_S) (e0 : cl_at ad0 σ0 a0 o0) (hF : cl_X0_window o0 σ0 p0 p1 = some (r, σ')) : cl_Ci l yX0_window cX0_window 4 .int ({ frames := 4, cells := 18, slots := 89, locals := 86 }) D dA ad0 A [.ref a0, .int p0, .int p1] σ0 r σ' := by
  refine cl_in RX0 rfl (by decide) (Nat.le_of_ble_eq_true rfl) ?_
  intro p e s m below meth c ls S hr hlocks hini hv hl
  have hx := S.1
  have hb := S.2.1
  have hown := S.2.2.2.1
  have hts := S.2.2.2.2
  obtain ⟨hN, hK, hP, hD, hA, hZ⟩ := hv
  have V : cl_V D dA (ad0, cl_n σ0) ad0 A s.heap σ0 s s.heap [] := ⟨hN, hK, hP, hD, va_S.rf, hA, hZ, fun _ _ => rfl, Nat.le_refl _⟩
  obtain ⟨ad, V, e0⟩ : ∃ ad, cl_V D dA (ad0, cl_n σ0) ad A s.heap σ0 s s.heap [] ∧ cl_at ad σ0 a0 o0 := ⟨ad0, V, e0⟩
  replace hl : lv_has ls 4 [(0, .ref a0), (1, .int p0), (2, .int p1)] := hl
  unfold cl_X0_window at hF
  have hJ63 : ∀ (σ : cl_S) (v1 : Int32) (v2 : Int32) (ad : Nat → Nat) (H : Heap) (locs : List Loc) (ls : Array Slot), cl_X0_window_J63 o0 σ v1 v2 = some (r, σ') → cl_at ad σ a0 o0 → cl_V D dA (ad0, cl_n σ0) ad A s.heap σ s H locs → lv_has ls 4 [(0, .ref a0), (1, .int v1), (2, .int v2)] → W p l e ({ frames := 4, cells := 18, slots := 89, locals := 86 }) s m ([.ref a0, .int p0, .int p1] : List Value).toArray below meth c H locs 0 0 (MQ below (cl_Qi D dA ad0 A σ0 σ' r) ([.ref a0, .int p0, .int p1] : List Value).toArray s 18 89 A) (F0 m 63 ls []) := by
    intro σ v1 v2 ad H locs ls hF e0 V hl
    unfold cl_X0_window_J63 at hF
    refine lv_aload_n hx hb dX0_window_63 rfl (lv_at hl 0 rfl) ?_
    obtain ⟨hg, hF⟩ := dx_gd_some hF
    have k8 := of_decide_eq_true hg
    obtain ⟨σ7, h7c, hF⟩ := dx_b1_some hF
    refine cl_cv (va_runV (As := []) S (cm_X0_keep l D dA _ A a0 o0  σ _ e0 h7c) (cwV 0 hts (lw_V q1067 q1069 qs18 q77 q1070) rfl rfl rfl ⟨rfl, cd_X0_keep⟩ ⟨Nat.le_of_ble_eq_true rfl, Nat.le_of_ble_eq_true rfl⟩) (cl_preV V [] e0 k8 rfl (by decide)) rfl rfl hl.1 rfl (lv_room (Nat.le_of_ble_eq_true rfl)) dX0_window_64 ⟨Nat.le_of_ble_eq_true rfl, Nat.le_of_ble_eq_true rfl⟩) V (fun ad _ _ hag hle V => ?_)
    replace e0 := e0.mv hag hle
    refine lv_aload_n hx hb dX0_window_67 rfl (lv_at hl 0 rfl) ?_
    obtain ⟨hg, hF⟩ := dx_gd_some hF
    have k9 := of_decide_eq_true hg
    obtain ⟨hg, hF⟩ := dx_gd_some hF
    refine cl_gr S V e0 k9 rfl (by decide) in_X0 4 (by decide) rfl q272 rfl dX0_window_68 (of_decide_eq_true hg) (fun bb10 ee10 => ?_)
    obtain ⟨hg, hF⟩ := dx_gd_some hF
    have k11 := of_decide_eq_true hg
    refine cl_gi S V ee10 k11 rfl (by decide) in_X2 3 (by decide) rfl q163 rfl dX0_window_71 ?_
    refine lv_istore_n (lv' := [(3, .int (cl_i σ7 (cl_r σ7 o0 4) 3)), (0, .ref a0), (1, .int v1), (2, .int v2)]) hx hb dX0_window_74 rfl hl (by decide) rfl (fun ls hl => ?_)
    refine lv_aload_n hx hb dX0_window_75 rfl (lv_at hl 1 rfl) ?_
    obtain ⟨hg, hF⟩ := dx_gd_some hF
    refine cl_gr S V e0 k9 rfl (by decide) in_X0 4 (by decide) rfl q272 rfl dX0_window_76 (of_decide_eq_true hg) (fun bb12 ee12 => ?_)
    refine lv_iload_n hx hb dX0_window_79 rfl (lv_at hl 2 rfl) ?_
    refine cl_pi S V ee12 k11 rfl (by decide) in_X2 tyX2 tyX2_ok nmX2 2 (by decide) rfl q160 rfl rfl rfl dX0_window_80 (fun _ _ V => ?_)
    refine lv_aload_n hx hb dX0_window_83 rfl (lv_at hl 1 rfl) ?_
    obtain ⟨hg, hF⟩ := dx_gd_some hF
    refine cl_gr S V e0 k9 rfl (by decide) in_X0 4 (by decide) rfl q272 rfl dX0_window_84 (of_decide_eq_true hg) (fun bb13 ee13 => ?_)
    refine lv_iload_n hx hb dX0_window_87 rfl (lv_at hl 3 rfl) ?_
    obtain ⟨hg, hF⟩ := dx_gd_some hF
    have k14 := of_decide_eq_true hg
    refine cl_pi S V ee13 k14 rfl (by decide) in_X2 tyX2 tyX2_ok nmX2 3 (by decide) rfl q163 rfl rfl rfl dX0_window_88 (fun _ _ V => ?_)
    obtain ⟨σ15, eσ15⟩ : ∃ x, x = (cl_wi (cl_wi σ7 (cl_r σ7 o0 4) 2 v1) (cl_r (cl_wi σ7 (cl_r σ7 o0 4) 2 v1) o0 4) 3 v2) := ⟨_, rfl⟩
    rw [← eσ15] at V
    replace hF := dx_let_e eσ15 hF
    replace e0 : cl_at ad σ15 a0 o0 := by rw [eσ15]; exact e0
    replace k9 : cl_k σ15 o0 = 0 := by rw [eσ15]; exact k9
    replace k11 : cl_k σ15 (cl_r σ7 o0 4) = 2 := by rw [eσ15]; exact k11
    replace k14 : cl_k σ15 (cl_r (cl_wi σ7 (cl_r σ7 o0 4) 2 v1) o0 4) = 2 := by rw [eσ15]; exact k14
    refine lv_aload_n hx hb dX0_window_91 rfl (lv_at hl 1 rfl) ?_
    obtain ⟨hg, hF⟩ := dx_gd_some hF
    refine cl_gr S V e0 k9 rfl (by decide) in_X0 4 (by decide) rfl q272 rfl dX0_window_92 (of_decide_eq_true hg) (fun bb16 ee16 => ?_)
    obtain ⟨hg, hF⟩ := dx_gd_some hF
    have k18 := of_decide_eq_true hg
    obtain ⟨r17, σ17, h17c, hF⟩ := dx_b2_some hF
    obtain ⟨hg, hF⟩ := dx_gd_some hF
    refine cl_cr (va_runV (As := []) S (cm_X2_stirred l D dA _ A bb16 (cl_r σ15 o0 4)  σ15 _ _ ee16 h17c) (cwV 0 hts (lw_V q982 q983 q984 q79 q985) rfl rfl rfl ⟨rfl, cd_X2_stirred⟩ ⟨Nat.le_of_ble_eq_true rfl, Nat.le_of_ble_eq_true rfl⟩) (cl_preV V [] ee16 k18 rfl (by decide)) rfl rfl hl.1 rfl (lv_room (Nat.le_of_ble_eq_true rfl)) dX0_window_95 ⟨Nat.le_of_ble_eq_true rfl, Nat.le_of_ble_eq_true rfl⟩) V (of_decide_eq_true hg) (fun bb17 ad _ _ hag hle ee17 V => ?_)
    replace e0 := e0.mv hag hle
    refine lv_pop hx hb dX0_window_98 rfl ?_
    refine lv_iload_n hx hb dX0_window_99 rfl (lv_at hl 0 rfl) ?_
    refine W.widen (k := 18) (n := 89) (by first | omega | (dsimp only; omega)) (by first | omega | (dsimp only; omega)) ?_
    obtain ⟨hF1, hF2⟩ := dx_r2 hF
    subst hF1
    subst hF2
    exact cl_ri S V hr hlocks rfl dX0_window_100
  refine lv_aload_n hx hb dX0_window_0 rfl (lv_at hl 0 rfl) ?_
  obtain ⟨hg, hF⟩ := dx_gd_some hF
  have k2 := of_decide_eq_true hg
  obtain ⟨r1, h1c, hF⟩ := dx_b1_some hF
  refine cl_ci (va_runV (As := []) S (cm_X0_isThere l D dA _ A a0 o0  σ0 _ e0 h1c) (cwV 0 hts (lw_V q1092 q1094 qs20 q77 q1095) rfl rfl rfl ⟨rfl, cd_X0_isThere⟩ ⟨Nat.le_of_ble_eq_true rfl, Nat.le_of_ble_eq_true rfl⟩) (cl_preV V [] e0 k2 rfl (by decide)) rfl rfl hl.1 rfl (lv_room (Nat.le_of_ble_eq_true rfl)) dX0_window_1 ⟨Nat.le_of_ble_eq_true rfl, Nat.le_of_ble_eq_true rfl⟩) V (fun ad _ _ hag hle V => ?_)
  replace e0 := e0.mv hag hle
  refine lv_if_ne (tgt := 10) hx hb dX0_window_4 (by decide) (fun hc => ?_) (fun hc => ?_)
  · replace hF := dx_ib_t (dx_bI_n hc) hF
    refine lv_iload_n hx hb dX0_window_10 rfl (lv_at hl 1 rfl) ?_
    refine lv_i2l hx hb dX0_window_11 rfl ?_
    refine lv_lconst (v := 1) hx hb dX0_window_12 (by decide) ?_
    refine lv_ldc2 hx hb hown (hts _ q1096) dX0_window_13 ?_
    obtain ⟨r3, h3c, hF⟩ := dx_b1_some hF
    refine dx_cPi S [.long p0.toInt64, .long (1 : Int64), .long (9 : Int64)] (cm_X0_isIn l p0.toInt64 (1 : Int64) (9 : Int64) _ h3c) (va_cwS 3 hts (lw_S q402 q403 q77 q404) rfl rfl rfl cd_X0_isIn ⟨Nat.le_of_ble_eq_true rfl, Nat.le_of_ble_eq_true rfl⟩) rfl rfl hl.1 (Nat.le_of_ble_eq_true rfl) dX0_window_16 ⟨Nat.le_of_ble_eq_true rfl, Nat.le_of_ble_eq_true rfl⟩ ?_
    refine lv_if_eq (tgt := 35) hx hb dX0_window_19 (by decide) (fun hc => ?_) (fun hc => ?_)
    · replace hF := dx_ib_f (dx_bI_0 hc) hF
      refine lv_ldc hx hb hown (hts _ q406) dX0_window_35 ?_
      refine W.widen (k := 18) (n := 89) (by first | omega | (dsimp only; omega)) (by first | omega | (dsimp only; omega)) ?_
      obtain ⟨hF1, hF2⟩ := dx_r2 hF
      subst hF1
      subst hF2
      exact cl_ri S V hr hlocks rfl dX0_window_37
    · replace hF := dx_ib_t (dx_bI_n hc) hF
      refine lv_iload_n hx hb dX0_window_22 rfl (lv_at hl 2 rfl) ?_
      refine lv_i2l hx hb dX0_window_23 rfl ?_
      refine lv_iload_n hx hb dX0_window_24 rfl (lv_at hl 1 rfl) ?_
      refine lv_i2l hx hb dX0_window_25 rfl ?_
      refine lv_ldc2 hx hb hown (hts _ q1097) dX0_window_26 ?_
      obtain ⟨r4, h4c, hF⟩ := dx_b1_some hF
      refine dx_cPi S [.long p1.toInt64, .long p0.toInt64, .long (20 : Int64)] (cm_X0_isIn l p1.toInt64 p0.toInt64 (20 : Int64) _ h4c) (va_cwS 3 hts (lw_S q402 q403 q77 q404) rfl rfl rfl cd_X0_isIn ⟨Nat.le_of_ble_eq_true rfl, Nat.le_of_ble_eq_true rfl⟩) rfl rfl hl.1 (Nat.le_of_ble_eq_true rfl) dX0_window_29 ⟨Nat.le_of_ble_eq_true rfl, Nat.le_of_ble_eq_true rfl⟩ ?_
      refine lv_if_ne (tgt := 38) hx hb dX0_window_32 (by decide) (fun hc => ?_) (fun hc => ?_)
      · replace hF := dx_ib_t (dx_bI_n hc) hF
        refine lv_aload_n hx hb dX0_window_38 rfl (lv_at hl 0 rfl) ?_
        obtain ⟨hg, hF⟩ := dx_gd_some hF
        refine cl_gr S V e0 k2 rfl (by decide) in_X0 4 (by decide) rfl q272 rfl dX0_window_39 (of_decide_eq_true hg) (fun bb5 ee5 => ?_)
        obtain ⟨hg, hF⟩ := dx_gd_some hF
        have k6 := of_decide_eq_true hg
        refine cl_gi S V ee5 k6 rfl (by decide) in_X2 2 (by decide) rfl q160 rfl dX0_window_42 ?_
        refine lv_iload_n hx hb dX0_window_45 rfl (lv_at hl 1 rfl) ?_
        refine lv_icmp_ne (tgt := 63) hx hb dX0_window_46 (by decide) (fun hc => ?_) (fun hc => ?_)
        · replace hF := (if_neg hc).symm.trans hF
          refine W.widen (k := 0) (n := 0) (by first | omega | (dsimp only; omega)) (by first | omega | (dsimp only; omega)) ?_
          exact hJ63 σ0 p0 p1 _ _ _ _ hF e0 V (lv_sub hl [0, 1, 2] rfl)
        · replace hF := (if_pos hc).symm.trans hF
          refine lv_aload_n hx hb dX0_window_49 rfl (lv_at hl 0 rfl) ?_
          obtain ⟨hg, hF⟩ := dx_gd_some hF
          refine cl_gr S V e0 k2 rfl (by decide) in_X0 4 (by decide) rfl q272 rfl dX0_window_50 (of_decide_eq_true hg) (fun bb19 ee19 => ?_)
          refine cl_gi S V ee19 k6 rfl (by decide) in_X2 3 (by decide) rfl q163 rfl dX0_window_53 ?_
          refine lv_iload_n hx hb dX0_window_56 rfl (lv_at hl 2 rfl) ?_
          refine lv_icmp_ne (tgt := 63) hx hb dX0_window_57 (by decide) (fun hc => ?_) (fun hc => ?_)
          · replace hF := (if_neg hc).symm.trans hF
            refine W.widen (k := 0) (n := 0) (by first | omega | (dsimp only; omega)) (by first | omega | (dsimp only; omega)) ?_
            exact hJ63 σ0 p0 p1 _ _ _ _ hF e0 V (lv_sub hl [0, 1, 2] rfl)
          · replace hF := (if_pos hc).symm.trans hF
            refine lv_ldc hx hb hown (hts _ q1083) dX0_window_60 ?_
            refine W.widen (k := 18) (n := 89) (by first | omega | (dsimp only; omega)) (by first | omega | (dsimp only; omega)) ?_
            obtain ⟨hF1, hF2⟩ := dx_r2 hF
            subst hF1
            subst hF2
            exact cl_ri S V hr hlocks rfl dX0_window_62
      · replace hF := dx_ib_f (dx_bI_0 hc) hF
        refine lv_ldc hx hb hown (hts _ q406) dX0_window_35 ?_
        refine W.widen (k := 18) (n := 89) (by first | omega | (dsimp only; omega)) (by first | omega | (dsimp only; omega)) ?_
        obtain ⟨hF1, hF2⟩ := dx_r2 hF
        subst hF1
        subst hF2
        exact cl_ri S V hr hlocks rfl dX0_window_37
  · replace hF := dx_ib_f (dx_bI_0 hc) hF
    refine lv_ldc hx hb hown (hts _ q1083) dX0_window_7 ?_
    refine W.widen (k := 18) (n := 89) (by first | omega | (dsimp only; omega)) (by first | omega | (dsimp only; omega)) ?_
    obtain ⟨hF1, hF2⟩ := dx_r2 hF
    subst hF1
    subst hF2
    exact cl_ri S V hr hlocks rfl dX0_window_9
theorem cd_X11_kind : yX11_kind.cls ≠ "java/lang/invoke/MethodHandle" ∧ yX11_kind.cls ≠ "java/lang/invoke/VarHandle" ∧ (parseMethodDescriptor yX11_kind.desc).map (fun d => d.parameters.length) = some 0 := by decide +kernel
set_option maxHeartbeats 4000000 in
set_option maxRecDepth 100000 in
theorem cm_X11_kind (l : Launch) (D : va_G) (dA : Nat → ClassId) (ad0 : Nat → Nat) (A : Nat → Prop) (a0 : Nat) (o0 : Nat)  (σ0 : cl_S) (r : Int32) (e0 : cl_at ad0 σ0 a0 o0) (hF : cl_X11_kind o0 σ0 = some r) : cl_Ci l yX11_kind cX11_kind 1 .int ({ frames := 0, cells := 0, slots := 0, locals := 0 }) D dA ad0 A [.ref a0] σ0 r σ0 := by
  refine cl_in RX11 rfl (by decide) (Nat.le_of_ble_eq_true rfl) ?_
  intro p e s m below meth c ls S hr hlocks hini hv hl
  have hx := S.1
  have hb := S.2.1
  have hown := S.2.2.2.1
  have hts := S.2.2.2.2
  obtain ⟨hN, hK, hP, hD, hA, hZ⟩ := hv
  have V : cl_V D dA (ad0, cl_n σ0) ad0 A s.heap σ0 s s.heap [] := ⟨hN, hK, hP, hD, va_S.rf, hA, hZ, fun _ _ => rfl, Nat.le_refl _⟩
  obtain ⟨ad, V, e0⟩ : ∃ ad, cl_V D dA (ad0, cl_n σ0) ad A s.heap σ0 s s.heap [] ∧ cl_at ad σ0 a0 o0 := ⟨ad0, V, e0⟩
  replace hl : lv_has ls 1 [(0, .ref a0)] := hl
  unfold cl_X11_kind at hF
  refine lv_iconst (v := 1) hx hb dX11_kind_0 (by decide) ?_
  replace hF := Option.some.inj hF
  subst hF
  exact cl_ri S V hr hlocks rfl dX11_kind_1
theorem cd_X12_kind : yX12_kind.cls ≠ "java/lang/invoke/MethodHandle" ∧ yX12_kind.cls ≠ "java/lang/invoke/VarHandle" ∧ (parseMethodDescriptor yX12_kind.desc).map (fun d => d.parameters.length) = some 0 := by decide +kernel
set_option maxHeartbeats 4000000 in
set_option maxRecDepth 100000 in
theorem cm_X12_kind (l : Launch) (D : va_G) (dA : Nat → ClassId) (ad0 : Nat → Nat) (A : Nat → Prop) (a0 : Nat) (o0 : Nat)  (σ0 : cl_S) (r : Int32) (e0 : cl_at ad0 σ0 a0 o0) (hF : cl_X12_kind o0 σ0 = some r) : cl_Ci l yX12_kind cX12_kind 1 .int ({ frames := 0, cells := 0, slots := 0, locals := 0 }) D dA ad0 A [.ref a0] σ0 r σ0 := by
  refine cl_in RX12 rfl (by decide) (Nat.le_of_ble_eq_true rfl) ?_
  intro p e s m below meth c ls S hr hlocks hini hv hl
  have hx := S.1
  have hb := S.2.1
  have hown := S.2.2.2.1
  have hts := S.2.2.2.2
  obtain ⟨hN, hK, hP, hD, hA, hZ⟩ := hv
  have V : cl_V D dA (ad0, cl_n σ0) ad0 A s.heap σ0 s s.heap [] := ⟨hN, hK, hP, hD, va_S.rf, hA, hZ, fun _ _ => rfl, Nat.le_refl _⟩
  obtain ⟨ad, V, e0⟩ : ∃ ad, cl_V D dA (ad0, cl_n σ0) ad A s.heap σ0 s s.heap [] ∧ cl_at ad σ0 a0 o0 := ⟨ad0, V, e0⟩
  replace hl : lv_has ls 1 [(0, .ref a0)] := hl
  unfold cl_X12_kind at hF
  refine lv_iconst (v := 2) hx hb dX12_kind_0 (by decide) ?_
  replace hF := Option.some.inj hF
  subst hF
  exact cl_ri S V hr hlocks rfl dX12_kind_1
theorem cd_X13_kind : yX13_kind.cls ≠ "java/lang/invoke/MethodHandle" ∧ yX13_kind.cls ≠ "java/lang/invoke/VarHandle" ∧ (parseMethodDescriptor yX13_kind.desc).map (fun d => d.parameters.length) = some 0 := by decide +kernel
set_option maxHeartbeats 4000000 in
set_option maxRecDepth 100000 in
theorem cm_X13_kind (l : Launch) (D : va_G) (dA : Nat → ClassId) (ad0 : Nat → Nat) (A : Nat → Prop) (a0 : Nat) (o0 : Nat)  (σ0 : cl_S) (r : Int32) (e0 : cl_at ad0 σ0 a0 o0) (hF : cl_X13_kind o0 σ0 = some r) : cl_Ci l yX13_kind cX13_kind 1 .int ({ frames := 0, cells := 0, slots := 0, locals := 0 }) D dA ad0 A [.ref a0] σ0 r σ0 := by
  refine cl_in RX13 rfl (by decide) (Nat.le_of_ble_eq_true rfl) ?_
  intro p e s m below meth c ls S hr hlocks hini hv hl
  have hx := S.1
  have hb := S.2.1
  have hown := S.2.2.2.1
  have hts := S.2.2.2.2
  obtain ⟨hN, hK, hP, hD, hA, hZ⟩ := hv
  have V : cl_V D dA (ad0, cl_n σ0) ad0 A s.heap σ0 s s.heap [] := ⟨hN, hK, hP, hD, va_S.rf, hA, hZ, fun _ _ => rfl, Nat.le_refl _⟩
  obtain ⟨ad, V, e0⟩ : ∃ ad, cl_V D dA (ad0, cl_n σ0) ad A s.heap σ0 s s.heap [] ∧ cl_at ad σ0 a0 o0 := ⟨ad0, V, e0⟩
  replace hl : lv_has ls 1 [(0, .ref a0)] := hl
  unfold cl_X13_kind at hF
  refine lv_iconst (v := 3) hx hb dX13_kind_0 (by decide) ?_
  replace hF := Option.some.inj hF
  subst hF
  exact cl_ri S V hr hlocks rfl dX13_kind_1
theorem cd_X14_kind : yX14_kind.cls ≠ "java/lang/invoke/MethodHandle" ∧ yX14_kind.cls ≠ "java/lang/invoke/VarHandle" ∧ (parseMethodDescriptor yX14_kind.desc).map (fun d => d.parameters.length) = some 0 := by decide +kernel
set_option maxHeartbeats 4000000 in
set_option maxRecDepth 100000 in
theorem cm_X14_kind (l : Launch) (D : va_G) (dA : Nat → ClassId) (ad0 : Nat → Nat) (A : Nat → Prop) (a0 : Nat) (o0 : Nat)  (σ0 : cl_S) (r : Int32) (e0 : cl_at ad0 σ0 a0 o0) (hF : cl_X14_kind o0 σ0 = some r) : cl_Ci l yX14_kind cX14_kind 1 .int ({ frames := 0, cells := 0, slots := 0, locals := 0 }) D dA ad0 A [.ref a0] σ0 r σ0 := by
  refine cl_in RX14 rfl (by decide) (Nat.le_of_ble_eq_true rfl) ?_
  intro p e s m below meth c ls S hr hlocks hini hv hl
  have hx := S.1
  have hb := S.2.1
  have hown := S.2.2.2.1
  have hts := S.2.2.2.2
  obtain ⟨hN, hK, hP, hD, hA, hZ⟩ := hv
  have V : cl_V D dA (ad0, cl_n σ0) ad0 A s.heap σ0 s s.heap [] := ⟨hN, hK, hP, hD, va_S.rf, hA, hZ, fun _ _ => rfl, Nat.le_refl _⟩
  obtain ⟨ad, V, e0⟩ : ∃ ad, cl_V D dA (ad0, cl_n σ0) ad A s.heap σ0 s s.heap [] ∧ cl_at ad σ0 a0 o0 := ⟨ad0, V, e0⟩
  replace hl : lv_has ls 1 [(0, .ref a0)] := hl
  unfold cl_X14_kind at hF
  refine lv_iconst (v := 4) hx hb dX14_kind_0 (by decide) ?_
  replace hF := Option.some.inj hF
  subst hF
  exact cl_ri S V hr hlocks rfl dX14_kind_1
theorem cd_X15_kind : yX15_kind.cls ≠ "java/lang/invoke/MethodHandle" ∧ yX15_kind.cls ≠ "java/lang/invoke/VarHandle" ∧ (parseMethodDescriptor yX15_kind.desc).map (fun d => d.parameters.length) = some 0 := by decide +kernel
set_option maxHeartbeats 4000000 in
set_option maxRecDepth 100000 in
theorem cm_X15_kind (l : Launch) (D : va_G) (dA : Nat → ClassId) (ad0 : Nat → Nat) (A : Nat → Prop) (a0 : Nat) (o0 : Nat)  (σ0 : cl_S) (r : Int32) (e0 : cl_at ad0 σ0 a0 o0) (hF : cl_X15_kind o0 σ0 = some r) : cl_Ci l yX15_kind cX15_kind 1 .int ({ frames := 0, cells := 0, slots := 0, locals := 0 }) D dA ad0 A [.ref a0] σ0 r σ0 := by
  refine cl_in RX15 rfl (by decide) (Nat.le_of_ble_eq_true rfl) ?_
  intro p e s m below meth c ls S hr hlocks hini hv hl
  have hx := S.1
  have hb := S.2.1
  have hown := S.2.2.2.1
  have hts := S.2.2.2.2
  obtain ⟨hN, hK, hP, hD, hA, hZ⟩ := hv
  have V : cl_V D dA (ad0, cl_n σ0) ad0 A s.heap σ0 s s.heap [] := ⟨hN, hK, hP, hD, va_S.rf, hA, hZ, fun _ _ => rfl, Nat.le_refl _⟩
  obtain ⟨ad, V, e0⟩ : ∃ ad, cl_V D dA (ad0, cl_n σ0) ad A s.heap σ0 s s.heap [] ∧ cl_at ad σ0 a0 o0 := ⟨ad0, V, e0⟩
  replace hl : lv_has ls 1 [(0, .ref a0)] := hl
  unfold cl_X15_kind at hF
  refine lv_iconst (v := 5) hx hb dX15_kind_0 (by decide) ?_
  replace hF := Option.some.inj hF
  subst hF
  exact cl_ri S V hr hlocks rfl dX15_kind_1
set_option maxHeartbeats 4000000 in
set_option maxRecDepth 100000 in
theorem cl_dr_kind {p : Program} {l : Launch} {e : Env} {R : Room} {s : State} {m : MethodId} {args : Array Value} {below : List Frame} {meth : Method} {c : Code} {H : Heap} {locs : List Loc} {cells slots : Nat} {cc : ByteArray} {nL pc : Nat} {ls : Array Slot} {rest : List Value} {D : va_G} {dA : Nat → ClassId} {B : (Nat → Nat) × Nat} {ad : Nat → Nat} {A : Nat → Prop} {H0 : Heap} {σ0 : cl_S} {own : String} {index : Nat} (S : CallFix p m c cc nL s args lw_all own) (V : cl_V D dA B ad A H0 σ0 s H locs) {a0 o0 : Nat} (e0 : cl_at ad σ0 a0 o0) (hlink : Cond.methodLink own index ⟨"DatedContacts$Person", "kind", "()I"⟩ ∈ lw_all) {r : Int32} (hF : cl_dP_kind o0 σ0 = some r) (hR : 1 ≤ R.frames ∧ 20 ≤ R.locals) (hsz : ls.size = nL) (hW : (rest.map fun v => v.category).sum ≤ 8) (hdg : decode cc pc = .ok (.invokevirtual index, 3)) (hf : cells + 0 ≤ R.cells ∧ slots + 0 ≤ R.slots) : va_Run p l e R s m args below meth c H locs cells slots 0 0 (F0 m pc ls ([].reverse ++ .ref a0 :: rest)) rest (cl_Qi D dA ad A σ0 σ0 r ((.ref a0 :: [] : List Value)).toArray) A := by
  unfold cl_dP_kind at hF
  by_cases hk : cl_k σ0 o0 = 9
  · replace hF := (if_pos hk).symm.trans hF
    exact va_Run.wd (va_runU (As := []) S (cm_X11_kind l D dA _ A a0 o0 σ0 _ e0 hF) (va_cwA (owner := "DatedContacts$Person") 0 S.2.2.2.2 (lw_U hlink q1105 q1112 q1113 q106 q1114) rfl rfl rfl (V.1.1 _ cn_q1104) (by decide +kernel) ⟨Nat.le_trans (Nat.le_of_ble_eq_true rfl) hR.1, Nat.le_trans (Nat.le_of_ble_eq_true rfl) hR.2⟩) (cl_preV V [] e0 hk rfl (by decide)) rfl rfl hsz rfl (lv_room hW) hdg ⟨Nat.le_trans (Nat.add_le_add_left (Nat.le_of_ble_eq_true rfl) _) hf.1, Nat.le_trans (Nat.add_le_add_left (Nat.le_of_ble_eq_true rfl) _) hf.2⟩) (Nat.le_of_ble_eq_true rfl) (Nat.le_of_ble_eq_true rfl)
  replace hF := (if_neg hk).symm.trans hF
  clear hk
  by_cases hk : cl_k σ0 o0 = 10
  · replace hF := (if_pos hk).symm.trans hF
    exact va_Run.wd (va_runU (As := []) S (cm_X12_kind l D dA _ A a0 o0 σ0 _ e0 hF) (va_cwA (owner := "DatedContacts$Person") 0 S.2.2.2.2 (lw_U hlink q1105 q1109 q1110 q107 q1111) rfl rfl rfl (V.1.1 _ cn_q1104) (by decide +kernel) ⟨Nat.le_trans (Nat.le_of_ble_eq_true rfl) hR.1, Nat.le_trans (Nat.le_of_ble_eq_true rfl) hR.2⟩) (cl_preV V [] e0 hk rfl (by decide)) rfl rfl hsz rfl (lv_room hW) hdg ⟨Nat.le_trans (Nat.add_le_add_left (Nat.le_of_ble_eq_true rfl) _) hf.1, Nat.le_trans (Nat.add_le_add_left (Nat.le_of_ble_eq_true rfl) _) hf.2⟩) (Nat.le_of_ble_eq_true rfl) (Nat.le_of_ble_eq_true rfl)
  replace hF := (if_neg hk).symm.trans hF
  clear hk
  by_cases hk : cl_k σ0 o0 = 11
  · replace hF := (if_pos hk).symm.trans hF
    exact va_Run.wd (va_runU (As := []) S (cm_X13_kind l D dA _ A a0 o0 σ0 _ e0 hF) (va_cwA (owner := "DatedContacts$Person") 0 S.2.2.2.2 (lw_U hlink q1105 q1106 q1107 q108 q1108) rfl rfl rfl (V.1.1 _ cn_q1104) (by decide +kernel) ⟨Nat.le_trans (Nat.le_of_ble_eq_true rfl) hR.1, Nat.le_trans (Nat.le_of_ble_eq_true rfl) hR.2⟩) (cl_preV V [] e0 hk rfl (by decide)) rfl rfl hsz rfl (lv_room hW) hdg ⟨Nat.le_trans (Nat.add_le_add_left (Nat.le_of_ble_eq_true rfl) _) hf.1, Nat.le_trans (Nat.add_le_add_left (Nat.le_of_ble_eq_true rfl) _) hf.2⟩) (Nat.le_of_ble_eq_true rfl) (Nat.le_of_ble_eq_true rfl)
  replace hF := (if_neg hk).symm.trans hF
  clear hk
  by_cases hk : cl_k σ0 o0 = 12
  · replace hF := (if_pos hk).symm.trans hF
    exact va_Run.wd (va_runU (As := []) S (cm_X14_kind l D dA _ A a0 o0 σ0 _ e0 hF) (va_cwA (owner := "DatedContacts$Person") 0 S.2.2.2.2 (lw_U hlink q1105 q1118 q1119 q109 q1120) rfl rfl rfl (V.1.1 _ cn_q1104) (by decide +kernel) ⟨Nat.le_trans (Nat.le_of_ble_eq_true rfl) hR.1, Nat.le_trans (Nat.le_of_ble_eq_true rfl) hR.2⟩) (cl_preV V [] e0 hk rfl (by decide)) rfl rfl hsz rfl (lv_room hW) hdg ⟨Nat.le_trans (Nat.add_le_add_left (Nat.le_of_ble_eq_true rfl) _) hf.1, Nat.le_trans (Nat.add_le_add_left (Nat.le_of_ble_eq_true rfl) _) hf.2⟩) (Nat.le_of_ble_eq_true rfl) (Nat.le_of_ble_eq_true rfl)
  replace hF := (if_neg hk).symm.trans hF
  clear hk
  by_cases hk : cl_k σ0 o0 = 13
  · replace hF := (if_pos hk).symm.trans hF
    exact va_Run.wd (va_runU (As := []) S (cm_X15_kind l D dA _ A a0 o0 σ0 _ e0 hF) (va_cwA (owner := "DatedContacts$Person") 0 S.2.2.2.2 (lw_U hlink q1105 q1115 q1116 q110 q1117) rfl rfl rfl (V.1.1 _ cn_q1104) (by decide +kernel) ⟨Nat.le_trans (Nat.le_of_ble_eq_true rfl) hR.1, Nat.le_trans (Nat.le_of_ble_eq_true rfl) hR.2⟩) (cl_preV V [] e0 hk rfl (by decide)) rfl rfl hsz rfl (lv_room hW) hdg ⟨Nat.le_trans (Nat.add_le_add_left (Nat.le_of_ble_eq_true rfl) _) hf.1, Nat.le_trans (Nat.add_le_add_left (Nat.le_of_ble_eq_true rfl) _) hf.2⟩) (Nat.le_of_ble_eq_true rfl) (Nat.le_of_ble_eq_true rfl)
  replace hF := (if_neg hk).symm.trans hF
  clear hk
  cases hF
theorem cd_X0_become : yX0_become.cls ≠ "java/lang/invoke/MethodHandle" ∧ yX0_become.cls ≠ "java/lang/invoke/VarHandle" ∧ (parseMethodDescriptor yX0_become.desc).map (fun d => d.parameters.length) = some 2 := by decide +kernel
set_option maxHeartbeats 4000000 in
set_option maxRecDepth 100000 in
theorem cm_X0_become (l : Launch) (D : va_G) (dA : Nat → ClassId) (ad0 : Nat → Nat) (A : Nat → Prop) (a0 : Nat) (o0 : Nat) (p0 : Int32) (p1 : Int32) (σ0 : cl_S) (r : Int32) (σ' : cl_S) (e0 : cl_at ad0 σ0 a0 o0) (hF : cl_X0_become o0 σ0 p0 p1 = some (r, σ')) : cl_Ci l yX0_become cX0_become 4 .int ({ frames := 5, cells := 19, slots := 90, locals := 104 }) D dA ad0 A [.ref a0, .int p0, .int p1] σ0 r σ' := by
  refine cl_in RX0 rfl (by decide) (Nat.le_of_ble_eq_true rfl) ?_
  intro p e s m below meth c ls S hr hlocks hini hv hl
  have hx := S.1
  have hb := S.2.1
  have hown := S.2.2.2.1
  have hts := S.2.2.2.2
  obtain ⟨hN, hK, hP, hD, hA, hZ⟩ := hv
  have V : cl_V D dA (ad0, cl_n σ0) ad0 A s.heap σ0 s s.heap [] := ⟨hN, hK, hP, hD, va_S.rf, hA, hZ, fun _ _ => rfl, Nat.le_refl _⟩
  obtain ⟨ad, V, e0⟩ : ∃ ad, cl_V D dA (ad0, cl_n σ0) ad A s.heap σ0 s s.heap [] ∧ cl_at ad σ0 a0 o0 := ⟨ad0, V, e0⟩
  replace hl : lv_has ls 4 [(0, .ref a0), (1, .int p0), (2, .int p1)] := hl
  unfold cl_X0_become at hF
  refine lv_aload_n hx hb dX0_become_0 rfl (lv_at hl 0 rfl) ?_
  refine lv_iload_n hx hb dX0_become_1 rfl (lv_at hl 1 rfl) ?_
  obtain ⟨hg, hF⟩ := dx_gd_some hF
  have k2 := of_decide_eq_true hg
  obtain ⟨r1, h1c, hF⟩ := dx_b1_some hF
  refine cl_ci (va_runV (As := [.int p0]) S (cm_X0_isPerson l D dA _ A a0 o0 p0 σ0 _ e0 h1c) (cwV 1 hts (lw_V q1059 q1061 qs17 q77 q1062) rfl rfl rfl ⟨rfl, cd_X0_isPerson⟩ ⟨Nat.le_of_ble_eq_true rfl, Nat.le_of_ble_eq_true rfl⟩) (cl_preV V [.int p0] e0 k2 rfl (by decide)) rfl rfl hl.1 rfl (lv_room (Nat.le_of_ble_eq_true rfl)) dX0_become_2 ⟨Nat.le_of_ble_eq_true rfl, Nat.le_of_ble_eq_true rfl⟩) V (fun ad _ _ hag hle V => ?_)
  replace e0 := e0.mv hag hle
  refine lv_if_eq (tgt := 20) hx hb dX0_become_5 (by decide) (fun hc => ?_) (fun hc => ?_)
  · replace hF := dx_ib_f (dx_bI_0 hc) hF
    refine lv_ldc hx hb hown (hts _ q406) dX0_become_20 ?_
    refine W.widen (k := 19) (n := 90) (by first | omega | (dsimp only; omega)) (by first | omega | (dsimp only; omega)) ?_
    obtain ⟨hF1, hF2⟩ := dx_r2 hF
    subst hF1
    subst hF2
    exact cl_ri S V hr hlocks rfl dX0_become_22
  · replace hF := dx_ib_t (dx_bI_n hc) hF
    refine lv_iload_n hx hb dX0_become_8 rfl (lv_at hl 2 rfl) ?_
    refine lv_i2l hx hb dX0_become_9 rfl ?_
    refine lv_lconst (v := 1) hx hb dX0_become_10 (by decide) ?_
    refine lv_ldc2 hx hb hown (hts _ q1102) dX0_become_11 ?_
    obtain ⟨r3, h3c, hF⟩ := dx_b1_some hF
    refine dx_cPi S [.long p1.toInt64, .long (1 : Int64), .long (5 : Int64)] (cm_X0_isIn l p1.toInt64 (1 : Int64) (5 : Int64) _ h3c) (va_cwS 3 hts (lw_S q402 q403 q77 q404) rfl rfl rfl cd_X0_isIn ⟨Nat.le_of_ble_eq_true rfl, Nat.le_of_ble_eq_true rfl⟩) rfl rfl hl.1 (Nat.le_of_ble_eq_true rfl) dX0_become_14 ⟨Nat.le_of_ble_eq_true rfl, Nat.le_of_ble_eq_true rfl⟩ ?_
    refine lv_if_ne (tgt := 23) hx hb dX0_become_17 (by decide) (fun hc => ?_) (fun hc => ?_)
    · replace hF := dx_ib_t (dx_bI_n hc) hF
      refine lv_aload_n hx hb dX0_become_23 rfl (lv_at hl 0 rfl) ?_
      obtain ⟨hg, hF⟩ := dx_gd_some hF
      refine cl_gr S V e0 k2 rfl (by decide) in_X0 4 (by decide) rfl q272 rfl dX0_become_24 (of_decide_eq_true hg) (fun bb4 ee4 => ?_)
      obtain ⟨hg, hF⟩ := dx_gd_some hF
      have k5 := of_decide_eq_true hg
      obtain ⟨hg, hF⟩ := dx_gd_some hF
      refine cl_gr S V ee4 k5 rfl (by decide) in_X2 4 (by decide) rfl q166 rfl dX0_become_27 (of_decide_eq_true hg) (fun bb6 ee6 => ?_)
      refine lv_iload_n hx hb dX0_become_30 rfl (lv_at hl 1 rfl) ?_
      obtain ⟨hg, hF⟩ := dx_gd_some hF
      have k7 := of_decide_eq_true hg
      obtain ⟨hi8, hF⟩ := dx_gd_some hF
      obtain ⟨hg, hF⟩ := dx_gd_some hF
      refine cl_lr 4 25 S V ee6 k7 (by decide) rfl (dx_inb_in hi8) dX0_become_31 (of_decide_eq_true hg) (fun bb9 ee9 => ?_)
      obtain ⟨r10, h10c, hF⟩ := dx_b1_some hF
      refine cl_ci (cl_dr_kind S V ee9 q1103 h10c ⟨Nat.le_of_ble_eq_true rfl, Nat.le_of_ble_eq_true rfl⟩ hl.1 (Nat.le_of_ble_eq_true rfl) dX0_become_32 ⟨Nat.le_of_ble_eq_true rfl, Nat.le_of_ble_eq_true rfl⟩) V (fun ad _ _ hag hle V => ?_)
      replace e0 := e0.mv hag hle
      refine lv_istore_n (lv' := [(3, .int r10), (0, .ref a0), (1, .int p0), (2, .int p1)]) hx hb dX0_become_35 rfl hl (by decide) rfl (fun ls hl => ?_)
      refine lv_iload_n hx hb dX0_become_36 rfl (lv_at hl 0 rfl) ?_
      refine lv_iload_n hx hb dX0_become_37 rfl (lv_at hl 3 rfl) ?_
      refine lv_icmp_ne (tgt := 44) hx hb dX0_become_38 (by decide) (fun hc => ?_) (fun hc => ?_)
      · replace hF := (if_neg hc).symm.trans hF
        refine lv_aload_n hx hb dX0_become_44 rfl (lv_at hl 1 rfl) ?_
        obtain ⟨σ11, h11c, hF⟩ := dx_b1_some hF
        refine cl_cv (va_runV (As := []) S (cm_X0_keep l D dA _ A a0 o0  σ0 _ e0 h11c) (cwV 0 hts (lw_V q1067 q1069 qs18 q77 q1070) rfl rfl rfl ⟨rfl, cd_X0_keep⟩ ⟨Nat.le_of_ble_eq_true rfl, Nat.le_of_ble_eq_true rfl⟩) (cl_preV V [] e0 k2 rfl (by decide)) rfl rfl hl.1 rfl (lv_room (Nat.le_of_ble_eq_true rfl)) dX0_become_45 ⟨Nat.le_of_ble_eq_true rfl, Nat.le_of_ble_eq_true rfl⟩) V (fun ad _ _ hag hle V => ?_)
        replace e0 := e0.mv hag hle
        refine lv_aload_n hx hb dX0_become_48 rfl (lv_at hl 1 rfl) ?_
        obtain ⟨hg, hF⟩ := dx_gd_some hF
        have k12 := of_decide_eq_true hg
        obtain ⟨hg, hF⟩ := dx_gd_some hF
        refine cl_gr S V e0 k12 rfl (by decide) in_X0 4 (by decide) rfl q272 rfl dX0_become_49 (of_decide_eq_true hg) (fun bb13 ee13 => ?_)
        obtain ⟨hg, hF⟩ := dx_gd_some hF
        have k14 := of_decide_eq_true hg
        obtain ⟨hg, hF⟩ := dx_gd_some hF
        refine cl_gr S V ee13 k14 rfl (by decide) in_X2 4 (by decide) rfl q166 rfl dX0_become_52 (of_decide_eq_true hg) (fun bb15 ee15 => ?_)
        refine lv_iload_n hx hb dX0_become_55 rfl (lv_at hl 2 rfl) ?_
        refine lv_iload_n hx hb dX0_become_56 rfl (lv_at hl 3 rfl) ?_
        refine lv_iload_n hx hb dX0_become_57 rfl (lv_at hl 2 rfl) ?_
        obtain ⟨r16, σ16, h16c, hF⟩ := dx_b2_some hF
        obtain ⟨hg, hF⟩ := dx_gd_some hF
        refine cl_cr (va_runS (As := [.int p1, .int p0]) S (cm_X0_personBy l D dA _ A   p1 p0 σ11 _ _  h16c) (va_cwS 2 hts (lw_S q1121 q926 q77 q927) rfl rfl rfl cd_X0_personBy ⟨Nat.le_of_ble_eq_true rfl, Nat.le_of_ble_eq_true rfl⟩) (cl_preS V [.int p1, .int p0]) rfl rfl hl.1 rfl (lv_room (Nat.le_of_ble_eq_true rfl)) dX0_become_58 ⟨Nat.le_of_ble_eq_true rfl, Nat.le_of_ble_eq_true rfl⟩) V (of_decide_eq_true hg) (fun bb16 ad _ _ hag hle ee16 V => ?_)
        replace ee15 := ee15.mv hag hle
        replace e0 := e0.mv hag hle
        obtain ⟨hg, hF⟩ := dx_gd_some hF
        have k17 := of_decide_eq_true hg
        obtain ⟨hi18, hF⟩ := dx_gd_some hF
        obtain ⟨hg, hF⟩ := dx_gd_some hF
        have k19 := of_decide_eq_true hg
        refine cl_sa 4 25 S V ee15 k17 (by decide) rfl (dx_inb_in hi18) ee16 (cl_anyP V ee16 k19) dX0_become_61 (fun _ _ V => ?_)
        obtain ⟨σ20, eσ20⟩ : ∃ x, x = (cl_wr σ16 (cl_r σ11 (cl_r σ11 o0 4) 4) p0.toNatClampNeg r16) := ⟨_, rfl⟩
        rw [← eσ20] at V
        replace hF := dx_let_e eσ20 hF
        replace e0 : cl_at ad σ20 a0 o0 := by rw [eσ20]; exact e0
        replace k17 : cl_k σ20 (cl_r σ11 (cl_r σ11 o0 4) 4) = 25 := by rw [eσ20]; exact k17
        replace k19 : 9 ≤ cl_k σ20 r16 ∧ cl_k σ20 r16 ≤ 13 := by rw [eσ20]; exact k19
        refine lv_aload_n hx hb dX0_become_62 rfl (lv_at hl 1 rfl) ?_
        obtain ⟨hg, hF⟩ := dx_gd_some hF
        have k21 := of_decide_eq_true hg
        obtain ⟨hg, hF⟩ := dx_gd_some hF
        refine cl_gr S V e0 k21 rfl (by decide) in_X0 4 (by decide) rfl q272 rfl dX0_become_63 (of_decide_eq_true hg) (fun bb22 ee22 => ?_)
        obtain ⟨hg, hF⟩ := dx_gd_some hF
        have k24 := of_decide_eq_true hg
        obtain ⟨r23, σ23, h23c, hF⟩ := dx_b2_some hF
        obtain ⟨hg, hF⟩ := dx_gd_some hF
        refine cl_cr (va_runV (As := []) S (cm_X2_stirred l D dA _ A bb22 (cl_r σ20 o0 4)  σ20 _ _ ee22 h23c) (cwV 0 hts (lw_V q982 q983 q984 q79 q985) rfl rfl rfl ⟨rfl, cd_X2_stirred⟩ ⟨Nat.le_of_ble_eq_true rfl, Nat.le_of_ble_eq_true rfl⟩) (cl_preV V [] ee22 k24 rfl (by decide)) rfl rfl hl.1 rfl (lv_room (Nat.le_of_ble_eq_true rfl)) dX0_become_66 ⟨Nat.le_of_ble_eq_true rfl, Nat.le_of_ble_eq_true rfl⟩) V (of_decide_eq_true hg) (fun bb23 ad _ _ hag hle ee23 V => ?_)
        replace e0 := e0.mv hag hle
        refine lv_pop hx hb dX0_become_69 rfl ?_
        refine lv_iload_n hx hb dX0_become_70 rfl (lv_at hl 0 rfl) ?_
        refine W.widen (k := 19) (n := 90) (by first | omega | (dsimp only; omega)) (by first | omega | (dsimp only; omega)) ?_
        obtain ⟨hF1, hF2⟩ := dx_r2 hF
        subst hF1
        subst hF2
        exact cl_ri S V hr hlocks rfl dX0_become_71
      · replace hF := (if_pos hc).symm.trans hF
        refine lv_ldc hx hb hown (hts _ q1083) dX0_become_41 ?_
        refine W.widen (k := 19) (n := 90) (by first | omega | (dsimp only; omega)) (by first | omega | (dsimp only; omega)) ?_
        obtain ⟨hF1, hF2⟩ := dx_r2 hF
        subst hF1
        subst hF2
        exact cl_ri S V hr hlocks rfl dX0_become_43
    · replace hF := dx_ib_f (dx_bI_0 hc) hF
      refine lv_ldc hx hb hown (hts _ q406) dX0_become_20 ?_
      refine W.widen (k := 19) (n := 90) (by first | omega | (dsimp only; omega)) (by first | omega | (dsimp only; omega)) ?_
      obtain ⟨hF1, hF2⟩ := dx_r2 hF
      subst hF1
      subst hF2
      exact cl_ri S V hr hlocks rfl dX0_become_22
theorem cd_X0_undo : yX0_undo.cls ≠ "java/lang/invoke/MethodHandle" ∧ yX0_undo.cls ≠ "java/lang/invoke/VarHandle" ∧ (parseMethodDescriptor yX0_undo.desc).map (fun d => d.parameters.length) = some 0 := by decide +kernel
set_option maxHeartbeats 4000000 in
set_option maxRecDepth 100000 in
theorem cm_X0_undo (l : Launch) (D : va_G) (dA : Nat → ClassId) (ad0 : Nat → Nat) (A : Nat → Prop) (a0 : Nat) (o0 : Nat)  (σ0 : cl_S) (r : Int32) (σ' : cl_S) (e0 : cl_at ad0 σ0 a0 o0) (hF : cl_X0_undo o0 σ0 = some (r, σ')) : cl_Ci l yX0_undo cX0_undo 1 .int ({ frames := 2, cells := 0, slots := 0, locals := 47 }) D dA ad0 A [.ref a0] σ0 r σ' := by
  refine cl_in RX0 rfl (by decide) (Nat.le_of_ble_eq_true rfl) ?_
  intro p e s m below meth c ls S hr hlocks hini hv hl
  have hx := S.1
  have hb := S.2.1
  have hown := S.2.2.2.1
  have hts := S.2.2.2.2
  obtain ⟨hN, hK, hP, hD, hA, hZ⟩ := hv
  have V : cl_V D dA (ad0, cl_n σ0) ad0 A s.heap σ0 s s.heap [] := ⟨hN, hK, hP, hD, va_S.rf, hA, hZ, fun _ _ => rfl, Nat.le_refl _⟩
  obtain ⟨ad, V, e0⟩ : ∃ ad, cl_V D dA (ad0, cl_n σ0) ad A s.heap σ0 s s.heap [] ∧ cl_at ad σ0 a0 o0 := ⟨ad0, V, e0⟩
  replace hl : lv_has ls 1 [(0, .ref a0)] := hl
  unfold cl_X0_undo at hF
  refine lv_aload_n hx hb dX0_undo_0 rfl (lv_at hl 0 rfl) ?_
  obtain ⟨hg, hF⟩ := dx_gd_some hF
  have k1 := of_decide_eq_true hg
  refine cl_gi S V e0 k1 rfl (by decide) in_X0 9 (by decide) rfl q277 rfl dX0_undo_1 ?_
  refine lv_if_ne (tgt := 10) hx hb dX0_undo_4 (by decide) (fun hc => ?_) (fun hc => ?_)
  · replace hF := (if_neg hc).symm.trans hF
    refine lv_aload_n hx hb dX0_undo_10 rfl (lv_at hl 0 rfl) ?_
    refine lv_dup hx hb dX0_undo_11 rfl ?_
    refine cl_gi S V e0 k1 rfl (by decide) in_X0 9 (by decide) rfl q277 rfl dX0_undo_12 ?_
    refine lv_iconst (v := 1) hx hb dX0_undo_15 (by decide) ?_
    refine lv_isub hx hb dX0_undo_16 ?_
    refine cl_pi S V e0 k1 rfl (by decide) in_X0 tyX0 tyX0_ok nmX0 9 (by decide) rfl q277 rfl rfl rfl dX0_undo_17 (fun _ _ V => ?_)
    obtain ⟨σ2, eσ2⟩ : ∃ x, x = (cl_wi σ0 o0 9 ((cl_i σ0 o0 9) - (1 : Int32))) := ⟨_, rfl⟩
    rw [← eσ2] at V
    replace hF := dx_let_e eσ2 hF
    replace e0 : cl_at ad σ2 a0 o0 := by rw [eσ2]; exact e0
    replace k1 : cl_k σ2 o0 = 0 := by rw [eσ2]; exact k1
    refine lv_aload_n hx hb dX0_undo_20 rfl (lv_at hl 0 rfl) ?_
    obtain ⟨hg, hF⟩ := dx_gd_some hF
    refine cl_gr S V e0 k1 rfl (by decide) in_X0 4 (by decide) rfl q272 rfl dX0_undo_21 (of_decide_eq_true hg) (fun bb3 ee3 => ?_)
    refine lv_aload_n hx hb dX0_undo_24 rfl (lv_at hl 0 rfl) ?_
    obtain ⟨hg, hF⟩ := dx_gd_some hF
    refine cl_gr S V e0 k1 rfl (by decide) in_X0 8 (by decide) rfl q276 rfl dX0_undo_25 (of_decide_eq_true hg) (fun bb4 ee4 => ?_)
    refine lv_aload_n hx hb dX0_undo_28 rfl (lv_at hl 0 rfl) ?_
    refine cl_gi S V e0 k1 rfl (by decide) in_X0 9 (by decide) rfl q277 rfl dX0_undo_29 ?_
    obtain ⟨hg, hF⟩ := dx_gd_some hF
    have k5 := of_decide_eq_true hg
    obtain ⟨hi6, hF⟩ := dx_gd_some hF
    obtain ⟨hg, hF⟩ := dx_gd_some hF
    refine cl_lr 6 27 S V ee4 k5 (by decide) rfl (dx_inb_in hi6) dX0_undo_32 (of_decide_eq_true hg) (fun bb7 ee7 => ?_)
    obtain ⟨hg, hF⟩ := dx_gd_some hF
    have k9 := of_decide_eq_true hg
    obtain ⟨r8, σ8, h8c, hF⟩ := dx_b2_some hF
    obtain ⟨hg, hF⟩ := dx_gd_some hF
    refine cl_cr (va_runV (As := [.ref bb7]) S (cm_X2_become l D dA _ A bb3 bb7 (cl_r σ2 o0 4) (cl_r σ2 (cl_r σ2 o0 8) (cl_i σ2 o0 9).toNatClampNeg)  σ2 _ _ ee3 ee7 h8c) (cwV 1 hts (lw_V q1046 q1047 q1048 q79 q1049) rfl rfl rfl ⟨rfl, cd_X2_become⟩ ⟨Nat.le_of_ble_eq_true rfl, Nat.le_of_ble_eq_true rfl⟩) (cl_preV V [.ref bb7] ee3 k9 rfl (by decide)) rfl rfl hl.1 rfl (lv_room (Nat.le_of_ble_eq_true rfl)) dX0_undo_33 ⟨Nat.le_of_ble_eq_true rfl, Nat.le_of_ble_eq_true rfl⟩) V (of_decide_eq_true hg) (fun bb8 ad _ _ hag hle ee8 V => ?_)
    replace e0 := e0.mv hag hle
    refine lv_pop hx hb dX0_undo_36 rfl ?_
    refine lv_aload_n hx hb dX0_undo_37 rfl (lv_at hl 0 rfl) ?_
    obtain ⟨hg, hF⟩ := dx_gd_some hF
    have k10 := of_decide_eq_true hg
    refine cl_gi S V e0 k10 rfl (by decide) in_X0 9 (by decide) rfl q277 rfl dX0_undo_38 ?_
    obtain ⟨hF1, hF2⟩ := dx_r2 hF
    subst hF1
    subst hF2
    exact cl_ri S V hr hlocks rfl dX0_undo_41
  · replace hF := (if_pos hc).symm.trans hF
    refine lv_ldc hx hb hown (hts _ q1083) dX0_undo_7 ?_
    obtain ⟨hF1, hF2⟩ := dx_r2 hF
    subst hF1
    subst hF2
    exact cl_ri S V hr hlocks rfl dX0_undo_9
theorem cd_X2_window : yX2_window.cls ≠ "java/lang/invoke/MethodHandle" ∧ yX2_window.cls ≠ "java/lang/invoke/VarHandle" ∧ (parseMethodDescriptor yX2_window.desc).map (fun d => d.parameters.length) = some 1 := by decide +kernel
set_option maxHeartbeats 4000000 in
set_option maxRecDepth 100000 in
theorem cm_X2_window (l : Launch) (D : va_G) (dA : Nat → ClassId) (ad0 : Nat → Nat) (A : Nat → Prop) (a0 : Nat) (o0 : Nat) (p0 : Int32) (σ0 : cl_S) (r : Nat) (e0 : cl_at ad0 σ0 a0 o0) (hF : cl_X2_window o0 σ0 p0 = some r) : cl_Cr l yX2_window cX2_window 2 (.object "DatedContacts$Window") ({ frames := 0, cells := 0, slots := 0, locals := 0 }) D dA ad0 A [.ref a0, .int p0] σ0 r σ0 := by
  refine cl_in RX2 rfl (by decide) (Nat.le_of_ble_eq_true rfl) ?_
  intro p e s m below meth c ls S hr hlocks hini hv hl
  have hx := S.1
  have hb := S.2.1
  have hown := S.2.2.2.1
  have hts := S.2.2.2.2
  obtain ⟨hN, hK, hP, hD, hA, hZ⟩ := hv
  have V : cl_V D dA (ad0, cl_n σ0) ad0 A s.heap σ0 s s.heap [] := ⟨hN, hK, hP, hD, va_S.rf, hA, hZ, fun _ _ => rfl, Nat.le_refl _⟩
  obtain ⟨ad, V, e0⟩ : ∃ ad, cl_V D dA (ad0, cl_n σ0) ad A s.heap σ0 s s.heap [] ∧ cl_at ad σ0 a0 o0 := ⟨ad0, V, e0⟩
  replace hl : lv_has ls 2 [(0, .ref a0), (1, .int p0)] := hl
  unfold cl_X2_window at hF
  refine lv_aload_n hx hb dX2_window_0 rfl (lv_at hl 0 rfl) ?_
  obtain ⟨hg, hF⟩ := dx_gd_some hF
  have k1 := of_decide_eq_true hg
  obtain ⟨hg, hF⟩ := dx_gd_some hF
  refine cl_gr S V e0 k1 rfl (by decide) in_X2 9 (by decide) rfl q184 rfl dX2_window_1 (of_decide_eq_true hg) (fun bb2 ee2 => ?_)
  refine lv_iload_n hx hb dX2_window_4 rfl (lv_at hl 1 rfl) ?_
  obtain ⟨hg, hF⟩ := dx_gd_some hF
  have k3 := of_decide_eq_true hg
  obtain ⟨hi4, hF⟩ := dx_gd_some hF
  by_cases hn5 : (cl_r σ0 (cl_r σ0 o0 9) p0.toNatClampNeg) = 0
  · replace hF := (if_pos hn5).symm.trans hF
    refine cl_ln 5 26 S V ee2 k3 (by decide) rfl (dx_inb_in hi4) dX2_window_5 hn5 ?_
    replace hF := Option.some.inj hF
    subst hF
    exact cl_rrn S V hr (Or.inl ⟨_, rfl⟩) hlocks dX2_window_6
  · replace hF := (if_neg hn5).symm.trans hF
    refine cl_lr 5 26 S V ee2 k3 (by decide) rfl (dx_inb_in hi4) dX2_window_5 hn5 (fun bb5 ee5 => ?_)
    replace hF := Option.some.inj hF
    subst hF
    exact cl_rr S V hr (Or.inl ⟨_, rfl⟩) hlocks ee5 dX2_window_6
theorem cd_X2_of : yX2_of.cls ≠ "java/lang/invoke/MethodHandle" ∧ yX2_of.cls ≠ "java/lang/invoke/VarHandle" ∧ (parseMethodDescriptor yX2_of.desc).map (fun d => d.parameters.length) = some 1 := by decide +kernel
set_option maxHeartbeats 4000000 in
set_option maxRecDepth 100000 in
theorem cm_X2_of (l : Launch) (D : va_G) (dA : Nat → ClassId) (ad0 : Nat → Nat) (A : Nat → Prop) (a0 : Nat) (o0 : Nat) (p0 : Int32) (σ0 : cl_S) (r : Int32) (e0 : cl_at ad0 σ0 a0 o0) (hF : cl_X2_of o0 σ0 p0 = some r) : cl_Ci l yX2_of cX2_of 4 .int ({ frames := 0, cells := 0, slots := 0, locals := 0 }) D dA ad0 A [.ref a0, .int p0] σ0 r σ0 := by
  refine cl_in RX2 rfl (by decide) (Nat.le_of_ble_eq_true rfl) ?_
  intro p e s m below meth c ls S hr hlocks hini hv hl
  have hx := S.1
  have hb := S.2.1
  have hown := S.2.2.2.1
  have hts := S.2.2.2.2
  obtain ⟨hN, hK, hP, hD, hA, hZ⟩ := hv
  have V : cl_V D dA (ad0, cl_n σ0) ad0 A s.heap σ0 s s.heap [] := ⟨hN, hK, hP, hD, va_S.rf, hA, hZ, fun _ _ => rfl, Nat.le_refl _⟩
  obtain ⟨ad, V, e0⟩ : ∃ ad, cl_V D dA (ad0, cl_n σ0) ad A s.heap σ0 s s.heap [] ∧ cl_at ad σ0 a0 o0 := ⟨ad0, V, e0⟩
  replace hl : lv_has ls 4 [(0, .ref a0), (1, .int p0)] := hl
  unfold cl_X2_of at hF
  have hL4 : ∀ (v1 : Int32) (n : Nat) (v2 : Int32) (v3 : Int32) (ad : Nat → Nat) (H : Heap) (locs : List Loc) (ls : Array Slot), dx_lp (fun x => cl_X2_of_L4 o0 σ0 v1 x.1 x.2) n (v2, v3) = some r → cl_at ad σ0 a0 o0 → cl_V D dA (ad0, cl_n σ0) ad A s.heap σ0 s H locs → lv_has ls 4 [(0, .ref a0), (1, .int v1), (2, .int v2), (3, .int v3)] → W p l e ({ frames := 0, cells := 0, slots := 0, locals := 0 }) s m ([.ref a0, .int p0] : List Value).toArray below meth c H locs 0 0 (MQ below (cl_Qi D dA ad0 A σ0 σ0 r) ([.ref a0, .int p0] : List Value).toArray s 0 0 A) (F0 m 4 ls []) := by
    intro v1 n
    induction n with
    | zero =>
      intro v2 v3 ad H locs ls hF e0 V hl
      exact (dx_lp_0 hF).elim
    | succ n ih4 =>
      intro v2 v3 ad H locs ls hF e0 V hl
      obtain ⟨y4, hF, hz4⟩ := dx_lp_s hF
      replace hF : cl_X2_of_L4 o0 σ0 v1 v2 v3 = some y4 := hF
      unfold cl_X2_of_L4 at hF
      have hJ33 : ∀ (v3 : Int32) (t0 : Int32) (ad : Nat → Nat) (H : Heap) (locs : List Loc) (ls : Array Slot), cl_X2_of_J33 o0 σ0 v1 v3 t0 = some y4 → cl_at ad σ0 a0 o0 → cl_V D dA (ad0, cl_n σ0) ad A s.heap σ0 s H locs → lv_has ls 4 [(0, .ref a0), (1, .int v1), (3, .int v3)] → W p l e ({ frames := 0, cells := 0, slots := 0, locals := 0 }) s m ([.ref a0, .int p0] : List Value).toArray below meth c H locs 0 0 (MQ below (cl_Qi D dA ad0 A σ0 σ0 r) ([.ref a0, .int p0] : List Value).toArray s 0 0 A) (F0 m 33 ls [.int t0]) := by
        intro v3 t0 ad H locs ls hF e0 V hl
        unfold cl_X2_of_J33 at hF
        refine lv_iconst (v := 1) hx hb dX2_of_33 (by decide) ?_
        refine lv_iload_n hx hb dX2_of_34 rfl (lv_at hl 2 rfl) ?_
        refine lv_ishl hx hb dX2_of_35 ?_
        refine lv_goto (tgt := 40) hx hb dX2_of_36 (by decide) ?_
        refine lv_ior hx hb dX2_of_40 ?_
        refine lv_istore_n (lv' := [(2, .int (t0 ||| ((1 : Int32) <<< (v3 &&& 31)))), (0, .ref a0), (1, .int v1), (3, .int v3)]) hx hb dX2_of_41 rfl hl (by decide) rfl (fun ls hl => ?_)
        refine lv_iinc (v := (v3 + (1 : Int32))) (lv' := [(3, .int (v3 + (1 : Int32))), (2, .int (t0 ||| ((1 : Int32) <<< (v3 &&& 31)))), (0, .ref a0), (1, .int v1)]) hx hb dX2_of_42 hl (k := 3) rfl rfl (by decide) rfl (fun ls hl => ?_)
        refine lv_goto (tgt := 4) hx hb dX2_of_45 (by decide) ?_
        replace hF := Option.some.inj hF
        subst hF
        exact ih4 (t0 ||| ((1 : Int32) <<< (v3 &&& 31))) (v3 + (1 : Int32)) _ _ _ _ (dx_lk_l hz4) e0 V (lv_sub hl [2, 3, 1, 0] rfl)
      refine lv_iload_n hx hb dX2_of_4 rfl (lv_at hl 3 rfl) ?_
      refine lv_aload_n hx hb dX2_of_5 rfl (lv_at hl 0 rfl) ?_
      obtain ⟨hg, hF⟩ := dx_gd_some hF
      have k1 := of_decide_eq_true hg
      refine cl_gi S V e0 k1 rfl (by decide) in_X2 1 (by decide) rfl q153 rfl dX2_of_6 ?_
      refine lv_icmp_ge (tgt := 48) hx hb dX2_of_9 (by decide) (fun hc => ?_) (fun hc => ?_)
      · replace hF := (if_pos hc).symm.trans hF
        replace hF := dx_ex_k hF hz4
        refine lv_iload_n hx hb dX2_of_48 rfl (lv_at hl 2 rfl) ?_
        replace hF := Option.some.inj hF
        subst hF
        exact cl_ri S V hr hlocks rfl dX2_of_49
      · replace hF := (if_neg hc).symm.trans hF
        refine lv_iload_n hx hb dX2_of_12 rfl (lv_at hl 2 rfl) ?_
        refine lv_aload_n hx hb dX2_of_13 rfl (lv_at hl 0 rfl) ?_
        obtain ⟨hg, hF⟩ := dx_gd_some hF
        refine cl_gr S V e0 k1 rfl (by decide) in_X2 6 (by decide) rfl q170 rfl dX2_of_14 (of_decide_eq_true hg) (fun bb2 ee2 => ?_)
        refine lv_iload_n hx hb dX2_of_17 rfl (lv_at hl 3 rfl) ?_
        obtain ⟨hg, hF⟩ := dx_gd_some hF
        have k3 := of_decide_eq_true hg
        obtain ⟨hg, hF⟩ := dx_gd_some hF
        refine cl_ld S V ee2 k3 (dx_inb_in hg) dX2_of_18 ?_
        refine lv_iload_n hx hb dX2_of_19 rfl (lv_at hl 1 rfl) ?_
        refine lv_icmp_eq (tgt := 33) hx hb dX2_of_20 (by decide) (fun hc => ?_) (fun hc => ?_)
        · replace hF := (if_pos hc).symm.trans hF
          exact hJ33 v3 v2 _ _ _ _ hF e0 V (lv_sub hl [0, 1, 3] rfl)
        · replace hF := (if_neg hc).symm.trans hF
          refine lv_aload_n hx hb dX2_of_23 rfl (lv_at hl 0 rfl) ?_
          obtain ⟨hg, hF⟩ := dx_gd_some hF
          refine cl_gr S V e0 k1 rfl (by decide) in_X2 7 (by decide) rfl q175 rfl dX2_of_24 (of_decide_eq_true hg) (fun bb4 ee4 => ?_)
          refine lv_iload_n hx hb dX2_of_27 rfl (lv_at hl 3 rfl) ?_
          obtain ⟨hg, hF⟩ := dx_gd_some hF
          have k5 := of_decide_eq_true hg
          obtain ⟨hg, hF⟩ := dx_gd_some hF
          refine cl_ld S V ee4 k5 (dx_inb_in hg) dX2_of_28 ?_
          refine lv_iload_n hx hb dX2_of_29 rfl (lv_at hl 1 rfl) ?_
          refine lv_icmp_ne (tgt := 39) hx hb dX2_of_30 (by decide) (fun hc => ?_) (fun hc => ?_)
          · replace hF := (if_neg hc).symm.trans hF
            refine lv_iconst (v := 0) hx hb dX2_of_39 (by decide) ?_
            refine lv_ior hx hb dX2_of_40 ?_
            refine lv_istore_n (lv' := [(2, .int (v2 ||| (0 : Int32))), (0, .ref a0), (1, .int v1), (3, .int v3)]) hx hb dX2_of_41 rfl hl (by decide) rfl (fun ls hl => ?_)
            refine lv_iinc (v := (v3 + (1 : Int32))) (lv' := [(3, .int (v3 + (1 : Int32))), (2, .int (v2 ||| (0 : Int32))), (0, .ref a0), (1, .int v1)]) hx hb dX2_of_42 hl (k := 3) rfl rfl (by decide) rfl (fun ls hl => ?_)
            refine lv_goto (tgt := 4) hx hb dX2_of_45 (by decide) ?_
            replace hF := Option.some.inj hF
            subst hF
            exact ih4 (v2 ||| (0 : Int32)) (v3 + (1 : Int32)) _ _ _ _ (dx_lk_l hz4) e0 V (lv_sub hl [2, 3, 1, 0] rfl)
          · replace hF := (if_pos hc).symm.trans hF
            exact hJ33 v3 v2 _ _ _ _ hF e0 V (lv_sub hl [0, 1, 3] rfl)
  refine lv_iconst (v := 0) hx hb dX2_of_0 (by decide) ?_
  refine lv_istore_n (lv' := [(2, .int (0 : Int32)), (0, .ref a0), (1, .int p0)]) hx hb dX2_of_1 rfl hl (by decide) rfl (fun ls hl => ?_)
  refine lv_iconst (v := 0) hx hb dX2_of_2 (by decide) ?_
  refine lv_istore_n (lv' := [(3, .int (0 : Int32)), (2, .int (0 : Int32)), (0, .ref a0), (1, .int p0)]) hx hb dX2_of_3 rfl hl (by decide) rfl (fun ls hl => ?_)
  exact hL4 p0 dx_fu (0 : Int32) (0 : Int32) _ _ _ _ hF e0 V (lv_sub hl [2, 3, 1, 0] rfl)
theorem cd_X0_person : yX0_person.cls ≠ "java/lang/invoke/MethodHandle" ∧ yX0_person.cls ≠ "java/lang/invoke/VarHandle" ∧ (parseMethodDescriptor yX0_person.desc).map (fun d => d.parameters.length) = some 2 := by decide +kernel
set_option maxHeartbeats 4000000 in
set_option maxRecDepth 100000 in
theorem cm_X0_person (l : Launch) (D : va_G) (dA : Nat → ClassId) (ad0 : Nat → Nat) (A : Nat → Prop) (a0 : Nat) (o0 : Nat) (p0 : Int32) (p1 : Int32) (σ0 : cl_S) (r : Int32) (e0 : cl_at ad0 σ0 a0 o0) (hF : cl_X0_person o0 σ0 p0 p1 = some r) : cl_Ci l yX0_person cX0_person 4 .int ({ frames := 2, cells := 0, slots := 0, locals := 46 }) D dA ad0 A [.ref a0, .int p0, .int p1] σ0 r σ0 := by
  refine cl_in RX0 rfl (by decide) (Nat.le_of_ble_eq_true rfl) ?_
  intro p e s m below meth c ls S hr hlocks hini hv hl
  have hx := S.1
  have hb := S.2.1
  have hown := S.2.2.2.1
  have hts := S.2.2.2.2
  obtain ⟨hN, hK, hP, hD, hA, hZ⟩ := hv
  have V : cl_V D dA (ad0, cl_n σ0) ad0 A s.heap σ0 s s.heap [] := ⟨hN, hK, hP, hD, va_S.rf, hA, hZ, fun _ _ => rfl, Nat.le_refl _⟩
  obtain ⟨ad, V, e0⟩ : ∃ ad, cl_V D dA (ad0, cl_n σ0) ad A s.heap σ0 s s.heap [] ∧ cl_at ad σ0 a0 o0 := ⟨ad0, V, e0⟩
  replace hl : lv_has ls 4 [(0, .ref a0), (1, .int p0), (2, .int p1)] := hl
  unfold cl_X0_person at hF
  refine lv_aload_n hx hb dX0_person_0 rfl (lv_at hl 0 rfl) ?_
  refine lv_iload_n hx hb dX0_person_1 rfl (lv_at hl 1 rfl) ?_
  obtain ⟨hg, hF⟩ := dx_gd_some hF
  have k2 := of_decide_eq_true hg
  obtain ⟨r1, h1c, hF⟩ := dx_b1_some hF
  refine cl_ci (va_runV (As := [.int p0]) S (cm_X0_isPerson l D dA _ A a0 o0 p0 σ0 _ e0 h1c) (cwV 1 hts (lw_V q1059 q1061 qs17 q77 q1062) rfl rfl rfl ⟨rfl, cd_X0_isPerson⟩ ⟨Nat.le_of_ble_eq_true rfl, Nat.le_of_ble_eq_true rfl⟩) (cl_preV V [.int p0] e0 k2 rfl (by decide)) rfl rfl hl.1 rfl (lv_room (Nat.le_of_ble_eq_true rfl)) dX0_person_2 ⟨Nat.le_of_ble_eq_true rfl, Nat.le_of_ble_eq_true rfl⟩) V (fun ad _ _ hag hle V => ?_)
  replace e0 := e0.mv hag hle
  refine lv_if_ne (tgt := 11) hx hb dX0_person_5 (by decide) (fun hc => ?_) (fun hc => ?_)
  · replace hF := dx_ib_t (dx_bI_n hc) hF
    refine lv_aload_n hx hb dX0_person_11 rfl (lv_at hl 0 rfl) ?_
    obtain ⟨hg, hF⟩ := dx_gd_some hF
    refine cl_gr S V e0 k2 rfl (by decide) in_X0 4 (by decide) rfl q272 rfl dX0_person_12 (of_decide_eq_true hg) (fun bb3 ee3 => ?_)
    refine lv_iload_n hx hb dX0_person_15 rfl (lv_at hl 1 rfl) ?_
    obtain ⟨hg, hF⟩ := dx_gd_some hF
    have k5 := of_decide_eq_true hg
    obtain ⟨r4, h4c, hF⟩ := dx_b1_some hF
    by_cases h0 : r4 = 0
    · replace hF := (if_pos h0).symm.trans hF
      refine cl_crn (va_runV (As := [.int p0]) S (cm_X2_window l D dA _ A bb3 (cl_r σ0 o0 4) p0 σ0 _ ee3 h4c) (cwV 1 hts (lw_V q1130 q1131 q1132 q79 q1133) rfl rfl rfl ⟨rfl, cd_X2_window⟩ ⟨Nat.le_of_ble_eq_true rfl, Nat.le_of_ble_eq_true rfl⟩) (cl_preV V [.int p0] ee3 k5 rfl (by decide)) rfl rfl hl.1 rfl (lv_room (Nat.le_of_ble_eq_true rfl)) dX0_person_16 ⟨Nat.le_of_ble_eq_true rfl, Nat.le_of_ble_eq_true rfl⟩) V h0 (fun ad _ _ hag hle V => ?_)
      replace e0 := e0.mv hag hle
      refine lv_astore_nN (lv' := [(3, .null), (0, .ref a0), (1, .int p0), (2, .int p1)]) hx hb dX0_person_19 rfl hl (by decide) rfl (fun ls hl => ?_)
      refine lv_iload_n hx hb dX0_person_20 rfl (lv_at hl 3 rfl) ?_
      by_cases hs0 : p1 = (0 : Int32)
      · replace hF := (if_pos hs0).symm.trans hF
        refine lv_tableIn (tgt := 52) hx hb dX0_person_21 (by rw [hs0]; decide) (by rw [hs0]; decide) (by rw [hs0]; rfl) (by decide) ?_
        refine lv_aload_nN hx hb dX0_person_52 rfl (lv_at hl 0 rfl) ?_
        refine lv_ifnonnullN hx hb dX0_person_53 ?_
        refine lv_ldc hx hb hown (hts _ q1134) dX0_person_56 ?_
        refine lv_goto (tgt := 113) hx hb dX0_person_58 (by decide) ?_
        replace hF := Option.some.inj hF
        subst hF
        exact cl_ri S V hr hlocks rfl dX0_person_113
      replace hF := (if_neg hs0).symm.trans hF
      by_cases hs1 : p1 = (1 : Int32)
      · replace hF := (if_pos hs1).symm.trans hF
        refine lv_tableIn (tgt := 70) hx hb dX0_person_21 (by rw [hs1]; decide) (by rw [hs1]; decide) (by rw [hs1]; rfl) (by decide) ?_
        refine lv_aload_nN hx hb dX0_person_70 rfl (lv_at hl 0 rfl) ?_
        refine lv_ifnonnullN hx hb dX0_person_71 ?_
        refine lv_ldc hx hb hown (hts _ q1134) dX0_person_74 ?_
        refine lv_goto (tgt := 113) hx hb dX0_person_76 (by decide) ?_
        replace hF := Option.some.inj hF
        subst hF
        exact cl_ri S V hr hlocks rfl dX0_person_113
      replace hF := (if_neg hs1).symm.trans hF
      by_cases hs2 : p1 = (2 : Int32)
      · replace hF := (if_pos hs2).symm.trans hF
        refine lv_tableIn (tgt := 88) hx hb dX0_person_21 (by rw [hs2]; decide) (by rw [hs2]; decide) (by rw [hs2]; rfl) (by decide) ?_
        refine lv_aload_n hx hb dX0_person_88 rfl (lv_at hl 1 rfl) ?_
        obtain ⟨hg, hF⟩ := dx_gd_some hF
        refine cl_gr S V e0 k2 rfl (by decide) in_X0 4 (by decide) rfl q272 rfl dX0_person_89 (of_decide_eq_true hg) (fun bb6 ee6 => ?_)
        obtain ⟨hg, hF⟩ := dx_gd_some hF
        refine cl_gr S V ee6 k5 rfl (by decide) in_X2 5 (by decide) rfl q169 rfl dX0_person_92 (of_decide_eq_true hg) (fun bb7 ee7 => ?_)
        refine lv_iload_n hx hb dX0_person_95 rfl (lv_at hl 2 rfl) ?_
        obtain ⟨hg, hF⟩ := dx_gd_some hF
        have k8 := of_decide_eq_true hg
        obtain ⟨hg, hF⟩ := dx_gd_some hF
        refine cl_ld S V ee7 k8 (dx_inb_in hg) dX0_person_96 ?_
        refine lv_goto (tgt := 113) hx hb dX0_person_97 (by decide) ?_
        replace hF := Option.some.inj hF
        subst hF
        exact cl_ri S V hr hlocks rfl dX0_person_113
      replace hF := (if_neg hs2).symm.trans hF
      by_cases hs3 : p1 = (3 : Int32)
      · replace hF := (if_pos hs3).symm.trans hF
        refine lv_tableIn (tgt := 100) hx hb dX0_person_21 (by rw [hs3]; decide) (by rw [hs3]; decide) (by rw [hs3]; rfl) (by decide) ?_
        refine lv_aload_n hx hb dX0_person_100 rfl (lv_at hl 1 rfl) ?_
        obtain ⟨hg, hF⟩ := dx_gd_some hF
        refine cl_gr S V e0 k2 rfl (by decide) in_X0 4 (by decide) rfl q272 rfl dX0_person_101 (of_decide_eq_true hg) (fun bb9 ee9 => ?_)
        refine lv_iload_n hx hb dX0_person_104 rfl (lv_at hl 2 rfl) ?_
        obtain ⟨r10, h10c, hF⟩ := dx_b1_some hF
        refine cl_ci (va_runV (As := [.int p0]) S (cm_X2_of l D dA _ A bb9 (cl_r σ0 o0 4) p0 σ0 _ ee9 h10c) (cwV 1 hts (lw_V q1139 q1140 q1141 q79 q1142) rfl rfl rfl ⟨rfl, cd_X2_of⟩ ⟨Nat.le_of_ble_eq_true rfl, Nat.le_of_ble_eq_true rfl⟩) (cl_preV V [.int p0] ee9 k5 rfl (by decide)) rfl rfl hl.1 rfl (lv_room (Nat.le_of_ble_eq_true rfl)) dX0_person_105 ⟨Nat.le_of_ble_eq_true rfl, Nat.le_of_ble_eq_true rfl⟩) V (fun ad _ _ hag hle V => ?_)
        replace e0 := e0.mv hag hle
        refine lv_goto (tgt := 113) hx hb dX0_person_108 (by decide) ?_
        replace hF := Option.some.inj hF
        subst hF
        exact cl_ri S V hr hlocks rfl dX0_person_113
      replace hF := (if_neg hs3).symm.trans hF
      refine lv_tableOut (tgt := 111) hx hb dX0_person_21 (by have nhs0 := lv_neT hs0 (show ((0 : Int32)).toInt = 0 from rfl); have nhs1 := lv_neT hs1 (show ((1 : Int32)).toInt = 1 from rfl); have nhs2 := lv_neT hs2 (show ((2 : Int32)).toInt = 2 from rfl); have nhs3 := lv_neT hs3 (show ((3 : Int32)).toInt = 3 from rfl); omega) (by decide) ?_
      refine lv_ldc hx hb hown (hts _ q406) dX0_person_111 ?_
      replace hF := Option.some.inj hF
      subst hF
      exact cl_ri S V hr hlocks rfl dX0_person_113
    · replace hF := (if_neg h0).symm.trans hF
      refine cl_cr (va_runV (As := [.int p0]) S (cm_X2_window l D dA _ A bb3 (cl_r σ0 o0 4) p0 σ0 _ ee3 h4c) (cwV 1 hts (lw_V q1130 q1131 q1132 q79 q1133) rfl rfl rfl ⟨rfl, cd_X2_window⟩ ⟨Nat.le_of_ble_eq_true rfl, Nat.le_of_ble_eq_true rfl⟩) (cl_preV V [.int p0] ee3 k5 rfl (by decide)) rfl rfl hl.1 rfl (lv_room (Nat.le_of_ble_eq_true rfl)) dX0_person_16 ⟨Nat.le_of_ble_eq_true rfl, Nat.le_of_ble_eq_true rfl⟩) V h0 (fun bb4 ad _ _ hag hle ee4 V => ?_)
      replace e0 := e0.mv hag hle
      refine lv_astore_n (lv' := [(3, .ref bb4), (0, .ref a0), (1, .int p0), (2, .int p1)]) hx hb dX0_person_19 rfl hl (by decide) rfl (fun ls hl => ?_)
      refine lv_iload_n hx hb dX0_person_20 rfl (lv_at hl 3 rfl) ?_
      by_cases hs0 : p1 = (0 : Int32)
      · replace hF := (if_pos hs0).symm.trans hF
        refine lv_tableIn (tgt := 52) hx hb dX0_person_21 (by rw [hs0]; decide) (by rw [hs0]; decide) (by rw [hs0]; rfl) (by decide) ?_
        refine lv_aload_n hx hb dX0_person_52 rfl (lv_at hl 0 rfl) ?_
        refine lv_ifnonnull (tgt := 61) hx hb dX0_person_53 (by decide) ?_
        refine lv_aload_n hx hb dX0_person_61 rfl (lv_at hl 0 rfl) ?_
        obtain ⟨hg, hF⟩ := dx_gd_some hF
        have k12 := of_decide_eq_true hg
        obtain ⟨r11, h11c, hF⟩ := dx_b1_some hF
        refine cl_cFi (va_runF (V.2.1.1 14 _ rfl).2 (As := []) S (cm_X16_least l D dA _ A bb4 r4  σ0 _ ee4 h11c) (va_cwF 0 hts (lw_F q1136 q1014 q1016 q111 q1018) rfl rfl rfl (V.1.2.1 _ cf_Told_least) (by decide +kernel) ⟨Nat.le_of_ble_eq_true rfl, Nat.le_of_ble_eq_true rfl⟩) (cl_preV V [] ee4 k12 rfl (by decide)) rfl rfl hl.1 rfl (lv_room (Nat.le_of_ble_eq_true rfl)) dX0_person_62 ⟨Nat.le_of_ble_eq_true rfl, Nat.le_of_ble_eq_true rfl⟩) V (fun ad _ _ hag hle V => ?_)
        replace e0 := e0.mv hag hle
        replace ee4 := ee4.mv hag hle
        refine lv_goto (tgt := 113) hx hb dX0_person_67 (by decide) ?_
        replace hF := Option.some.inj hF
        subst hF
        exact cl_ri S V hr hlocks rfl dX0_person_113
      replace hF := (if_neg hs0).symm.trans hF
      by_cases hs1 : p1 = (1 : Int32)
      · replace hF := (if_pos hs1).symm.trans hF
        refine lv_tableIn (tgt := 70) hx hb dX0_person_21 (by rw [hs1]; decide) (by rw [hs1]; decide) (by rw [hs1]; rfl) (by decide) ?_
        refine lv_aload_n hx hb dX0_person_70 rfl (lv_at hl 0 rfl) ?_
        refine lv_ifnonnull (tgt := 79) hx hb dX0_person_71 (by decide) ?_
        refine lv_aload_n hx hb dX0_person_79 rfl (lv_at hl 0 rfl) ?_
        obtain ⟨hg, hF⟩ := dx_gd_some hF
        have k14 := of_decide_eq_true hg
        obtain ⟨r13, h13c, hF⟩ := dx_b1_some hF
        refine cl_cFi (va_runF (V.2.1.1 14 _ rfl).2 (As := []) S (cm_X16_most l D dA _ A bb4 r4  σ0 _ ee4 h13c) (va_cwF 0 hts (lw_F q1138 q1023 q1025 q111 q1027) rfl rfl rfl (V.1.2.1 _ cf_Told_most) (by decide +kernel) ⟨Nat.le_of_ble_eq_true rfl, Nat.le_of_ble_eq_true rfl⟩) (cl_preV V [] ee4 k14 rfl (by decide)) rfl rfl hl.1 rfl (lv_room (Nat.le_of_ble_eq_true rfl)) dX0_person_80 ⟨Nat.le_of_ble_eq_true rfl, Nat.le_of_ble_eq_true rfl⟩) V (fun ad _ _ hag hle V => ?_)
        replace e0 := e0.mv hag hle
        replace ee4 := ee4.mv hag hle
        refine lv_goto (tgt := 113) hx hb dX0_person_85 (by decide) ?_
        replace hF := Option.some.inj hF
        subst hF
        exact cl_ri S V hr hlocks rfl dX0_person_113
      replace hF := (if_neg hs1).symm.trans hF
      by_cases hs2 : p1 = (2 : Int32)
      · replace hF := (if_pos hs2).symm.trans hF
        refine lv_tableIn (tgt := 88) hx hb dX0_person_21 (by rw [hs2]; decide) (by rw [hs2]; decide) (by rw [hs2]; rfl) (by decide) ?_
        refine lv_aload_n hx hb dX0_person_88 rfl (lv_at hl 1 rfl) ?_
        obtain ⟨hg, hF⟩ := dx_gd_some hF
        refine cl_gr S V e0 k2 rfl (by decide) in_X0 4 (by decide) rfl q272 rfl dX0_person_89 (of_decide_eq_true hg) (fun bb15 ee15 => ?_)
        obtain ⟨hg, hF⟩ := dx_gd_some hF
        refine cl_gr S V ee15 k5 rfl (by decide) in_X2 5 (by decide) rfl q169 rfl dX0_person_92 (of_decide_eq_true hg) (fun bb16 ee16 => ?_)
        refine lv_iload_n hx hb dX0_person_95 rfl (lv_at hl 2 rfl) ?_
        obtain ⟨hg, hF⟩ := dx_gd_some hF
        have k17 := of_decide_eq_true hg
        obtain ⟨hg, hF⟩ := dx_gd_some hF
        refine cl_ld S V ee16 k17 (dx_inb_in hg) dX0_person_96 ?_
        refine lv_goto (tgt := 113) hx hb dX0_person_97 (by decide) ?_
        replace hF := Option.some.inj hF
        subst hF
        exact cl_ri S V hr hlocks rfl dX0_person_113
      replace hF := (if_neg hs2).symm.trans hF
      by_cases hs3 : p1 = (3 : Int32)
      · replace hF := (if_pos hs3).symm.trans hF
        refine lv_tableIn (tgt := 100) hx hb dX0_person_21 (by rw [hs3]; decide) (by rw [hs3]; decide) (by rw [hs3]; rfl) (by decide) ?_
        refine lv_aload_n hx hb dX0_person_100 rfl (lv_at hl 1 rfl) ?_
        obtain ⟨hg, hF⟩ := dx_gd_some hF
        refine cl_gr S V e0 k2 rfl (by decide) in_X0 4 (by decide) rfl q272 rfl dX0_person_101 (of_decide_eq_true hg) (fun bb18 ee18 => ?_)
        refine lv_iload_n hx hb dX0_person_104 rfl (lv_at hl 2 rfl) ?_
        obtain ⟨r19, h19c, hF⟩ := dx_b1_some hF
        refine cl_ci (va_runV (As := [.int p0]) S (cm_X2_of l D dA _ A bb18 (cl_r σ0 o0 4) p0 σ0 _ ee18 h19c) (cwV 1 hts (lw_V q1139 q1140 q1141 q79 q1142) rfl rfl rfl ⟨rfl, cd_X2_of⟩ ⟨Nat.le_of_ble_eq_true rfl, Nat.le_of_ble_eq_true rfl⟩) (cl_preV V [.int p0] ee18 k5 rfl (by decide)) rfl rfl hl.1 rfl (lv_room (Nat.le_of_ble_eq_true rfl)) dX0_person_105 ⟨Nat.le_of_ble_eq_true rfl, Nat.le_of_ble_eq_true rfl⟩) V (fun ad _ _ hag hle V => ?_)
        replace e0 := e0.mv hag hle
        replace ee4 := ee4.mv hag hle
        refine lv_goto (tgt := 113) hx hb dX0_person_108 (by decide) ?_
        replace hF := Option.some.inj hF
        subst hF
        exact cl_ri S V hr hlocks rfl dX0_person_113
      replace hF := (if_neg hs3).symm.trans hF
      refine lv_tableOut (tgt := 111) hx hb dX0_person_21 (by have nhs0 := lv_neT hs0 (show ((0 : Int32)).toInt = 0 from rfl); have nhs1 := lv_neT hs1 (show ((1 : Int32)).toInt = 1 from rfl); have nhs2 := lv_neT hs2 (show ((2 : Int32)).toInt = 2 from rfl); have nhs3 := lv_neT hs3 (show ((3 : Int32)).toInt = 3 from rfl); omega) (by decide) ?_
      refine lv_ldc hx hb hown (hts _ q406) dX0_person_111 ?_
      replace hF := Option.some.inj hF
      subst hF
      exact cl_ri S V hr hlocks rfl dX0_person_113
  · replace hF := dx_ib_f (dx_bI_0 hc) hF
    refine lv_ldc hx hb hown (hts _ q406) dX0_person_8 ?_
    replace hF := Option.some.inj hF
    subst hF
    exact cl_ri S V hr hlocks rfl dX0_person_10
theorem cd_X0_contact : yX0_contact.cls ≠ "java/lang/invoke/MethodHandle" ∧ yX0_contact.cls ≠ "java/lang/invoke/VarHandle" ∧ (parseMethodDescriptor yX0_contact.desc).map (fun d => d.parameters.length) = some 2 := by decide +kernel
set_option maxHeartbeats 4000000 in
set_option maxRecDepth 100000 in
theorem cm_X0_contact (l : Launch) (D : va_G) (dA : Nat → ClassId) (ad0 : Nat → Nat) (A : Nat → Prop) (a0 : Nat) (o0 : Nat) (p0 : Int32) (p1 : Int32) (σ0 : cl_S) (r : Int32) (e0 : cl_at ad0 σ0 a0 o0) (hF : cl_X0_contact o0 σ0 p0 p1 = some r) : cl_Ci l yX0_contact cX0_contact 3 .int ({ frames := 2, cells := 0, slots := 0, locals := 46 }) D dA ad0 A [.ref a0, .int p0, .int p1] σ0 r σ0 := by
  refine cl_in RX0 rfl (by decide) (Nat.le_of_ble_eq_true rfl) ?_
  intro p e s m below meth c ls S hr hlocks hini hv hl
  have hx := S.1
  have hb := S.2.1
  have hown := S.2.2.2.1
  have hts := S.2.2.2.2
  obtain ⟨hN, hK, hP, hD, hA, hZ⟩ := hv
  have V : cl_V D dA (ad0, cl_n σ0) ad0 A s.heap σ0 s s.heap [] := ⟨hN, hK, hP, hD, va_S.rf, hA, hZ, fun _ _ => rfl, Nat.le_refl _⟩
  obtain ⟨ad, V, e0⟩ : ∃ ad, cl_V D dA (ad0, cl_n σ0) ad A s.heap σ0 s s.heap [] ∧ cl_at ad σ0 a0 o0 := ⟨ad0, V, e0⟩
  replace hl : lv_has ls 3 [(0, .ref a0), (1, .int p0), (2, .int p1)] := hl
  unfold cl_X0_contact at hF
  refine lv_aload_n hx hb dX0_contact_0 rfl (lv_at hl 0 rfl) ?_
  refine lv_iload_n hx hb dX0_contact_1 rfl (lv_at hl 1 rfl) ?_
  obtain ⟨hg, hF⟩ := dx_gd_some hF
  have k2 := of_decide_eq_true hg
  obtain ⟨r1, h1c, hF⟩ := dx_b1_some hF
  refine cl_ci (va_runV (As := [.int p0]) S (cm_X0_isContact l D dA _ A a0 o0 p0 σ0 _ e0 h1c) (cwV 1 hts (lw_V q1075 q1077 qs19 q77 q1078) rfl rfl rfl ⟨rfl, cd_X0_isContact⟩ ⟨Nat.le_of_ble_eq_true rfl, Nat.le_of_ble_eq_true rfl⟩) (cl_preV V [.int p0] e0 k2 rfl (by decide)) rfl rfl hl.1 rfl (lv_room (Nat.le_of_ble_eq_true rfl)) dX0_contact_2 ⟨Nat.le_of_ble_eq_true rfl, Nat.le_of_ble_eq_true rfl⟩) V (fun ad _ _ hag hle V => ?_)
  replace e0 := e0.mv hag hle
  refine lv_if_ne (tgt := 11) hx hb dX0_contact_5 (by decide) (fun hc => ?_) (fun hc => ?_)
  · replace hF := dx_ib_t (dx_bI_n hc) hF
    refine lv_iload_n hx hb dX0_contact_11 rfl (lv_at hl 2 rfl) ?_
    by_cases hs0 : p1 = (0 : Int32)
    · replace hF := (if_pos hs0).symm.trans hF
      refine lv_tableIn (tgt := 40) hx hb dX0_contact_12 (by rw [hs0]; decide) (by rw [hs0]; decide) (by rw [hs0]; rfl) (by decide) ?_
      refine lv_aload_n hx hb dX0_contact_40 rfl (lv_at hl 0 rfl) ?_
      obtain ⟨hg, hF⟩ := dx_gd_some hF
      refine cl_gr S V e0 k2 rfl (by decide) in_X0 4 (by decide) rfl q272 rfl dX0_contact_41 (of_decide_eq_true hg) (fun bb3 ee3 => ?_)
      obtain ⟨hg, hF⟩ := dx_gd_some hF
      have k4 := of_decide_eq_true hg
      obtain ⟨hg, hF⟩ := dx_gd_some hF
      refine cl_gr S V ee3 k4 rfl (by decide) in_X2 6 (by decide) rfl q174 rfl dX0_contact_44 (of_decide_eq_true hg) (fun bb5 ee5 => ?_)
      refine lv_iload_n hx hb dX0_contact_47 rfl (lv_at hl 1 rfl) ?_
      obtain ⟨hg, hF⟩ := dx_gd_some hF
      have k6 := of_decide_eq_true hg
      obtain ⟨hg, hF⟩ := dx_gd_some hF
      refine cl_ld S V ee5 k6 (dx_inb_in hg) dX0_contact_48 ?_
      refine lv_goto (tgt := 78) hx hb dX0_contact_49 (by decide) ?_
      replace hF := Option.some.inj hF
      subst hF
      exact cl_ri S V hr hlocks rfl dX0_contact_78
    replace hF := (if_neg hs0).symm.trans hF
    by_cases hs1 : p1 = (1 : Int32)
    · replace hF := (if_pos hs1).symm.trans hF
      refine lv_tableIn (tgt := 52) hx hb dX0_contact_12 (by rw [hs1]; decide) (by rw [hs1]; decide) (by rw [hs1]; rfl) (by decide) ?_
      refine lv_aload_n hx hb dX0_contact_52 rfl (lv_at hl 0 rfl) ?_
      obtain ⟨hg, hF⟩ := dx_gd_some hF
      refine cl_gr S V e0 k2 rfl (by decide) in_X0 4 (by decide) rfl q272 rfl dX0_contact_53 (of_decide_eq_true hg) (fun bb7 ee7 => ?_)
      obtain ⟨hg, hF⟩ := dx_gd_some hF
      have k8 := of_decide_eq_true hg
      obtain ⟨hg, hF⟩ := dx_gd_some hF
      refine cl_gr S V ee7 k8 rfl (by decide) in_X2 7 (by decide) rfl q178 rfl dX0_contact_56 (of_decide_eq_true hg) (fun bb9 ee9 => ?_)
      refine lv_iload_n hx hb dX0_contact_59 rfl (lv_at hl 1 rfl) ?_
      obtain ⟨hg, hF⟩ := dx_gd_some hF
      have k10 := of_decide_eq_true hg
      obtain ⟨hg, hF⟩ := dx_gd_some hF
      refine cl_ld S V ee9 k10 (dx_inb_in hg) dX0_contact_60 ?_
      refine lv_goto (tgt := 78) hx hb dX0_contact_61 (by decide) ?_
      replace hF := Option.some.inj hF
      subst hF
      exact cl_ri S V hr hlocks rfl dX0_contact_78
    replace hF := (if_neg hs1).symm.trans hF
    by_cases hs2 : p1 = (2 : Int32)
    · replace hF := (if_pos hs2).symm.trans hF
      refine lv_tableIn (tgt := 64) hx hb dX0_contact_12 (by rw [hs2]; decide) (by rw [hs2]; decide) (by rw [hs2]; rfl) (by decide) ?_
      refine lv_aload_n hx hb dX0_contact_64 rfl (lv_at hl 0 rfl) ?_
      obtain ⟨hg, hF⟩ := dx_gd_some hF
      refine cl_gr S V e0 k2 rfl (by decide) in_X0 4 (by decide) rfl q272 rfl dX0_contact_65 (of_decide_eq_true hg) (fun bb11 ee11 => ?_)
      obtain ⟨hg, hF⟩ := dx_gd_some hF
      have k12 := of_decide_eq_true hg
      obtain ⟨hg, hF⟩ := dx_gd_some hF
      refine cl_gr S V ee11 k12 rfl (by decide) in_X2 8 (by decide) rfl q183 rfl dX0_contact_68 (of_decide_eq_true hg) (fun bb13 ee13 => ?_)
      refine lv_iload_n hx hb dX0_contact_71 rfl (lv_at hl 1 rfl) ?_
      obtain ⟨hg, hF⟩ := dx_gd_some hF
      have k14 := of_decide_eq_true hg
      obtain ⟨hg, hF⟩ := dx_gd_some hF
      refine cl_ld S V ee13 k14 (dx_inb_in hg) dX0_contact_72 ?_
      refine lv_goto (tgt := 78) hx hb dX0_contact_73 (by decide) ?_
      replace hF := Option.some.inj hF
      subst hF
      exact cl_ri S V hr hlocks rfl dX0_contact_78
    replace hF := (if_neg hs2).symm.trans hF
    refine lv_tableOut (tgt := 76) hx hb dX0_contact_12 (by have nhs0 := lv_neT hs0 (show ((0 : Int32)).toInt = 0 from rfl); have nhs1 := lv_neT hs1 (show ((1 : Int32)).toInt = 1 from rfl); have nhs2 := lv_neT hs2 (show ((2 : Int32)).toInt = 2 from rfl); omega) (by decide) ?_
    refine lv_ldc hx hb hown (hts _ q406) dX0_contact_76 ?_
    replace hF := Option.some.inj hF
    subst hF
    exact cl_ri S V hr hlocks rfl dX0_contact_78
  · replace hF := dx_ib_f (dx_bI_0 hc) hF
    refine lv_ldc hx hb hown (hts _ q406) dX0_contact_8 ?_
    replace hF := Option.some.inj hF
    subst hF
    exact cl_ri S V hr hlocks rfl dX0_contact_10
theorem cd_X0_areSo : yX0_areSo.cls ≠ "java/lang/invoke/MethodHandle" ∧ yX0_areSo.cls ≠ "java/lang/invoke/VarHandle" ∧ (parseMethodDescriptor yX0_areSo.desc).map (fun d => d.parameters.length) = some 3 := by decide +kernel
set_option maxHeartbeats 4000000 in
set_option maxRecDepth 100000 in
theorem cm_X0_areSo (l : Launch) (D : va_G) (dA : Nat → ClassId) (ad0 : Nat → Nat) (A : Nat → Prop) (a0 : Nat) (o0 : Nat) (p0 : Int32) (p1 : Int32) (p2 : Int32) (σ0 : cl_S) (r : Bool) (e0 : cl_at ad0 σ0 a0 o0) (hF : cl_X0_areSo o0 σ0 p0 p1 p2 = some r) : cl_Ci l yX0_areSo cX0_areSo 4 .boolean ({ frames := 2, cells := 0, slots := 0, locals := 46 }) D dA ad0 A [.ref a0, .int p0, .int p1, .int p2] σ0 (dx_bI r) σ0 := by
  refine cl_in RX0 rfl (by decide) (Nat.le_of_ble_eq_true rfl) ?_
  intro p e s m below meth c ls S hr hlocks hini hv hl
  have hx := S.1
  have hb := S.2.1
  have hown := S.2.2.2.1
  have hts := S.2.2.2.2
  obtain ⟨hN, hK, hP, hD, hA, hZ⟩ := hv
  have V : cl_V D dA (ad0, cl_n σ0) ad0 A s.heap σ0 s s.heap [] := ⟨hN, hK, hP, hD, va_S.rf, hA, hZ, fun _ _ => rfl, Nat.le_refl _⟩
  obtain ⟨ad, V, e0⟩ : ∃ ad, cl_V D dA (ad0, cl_n σ0) ad A s.heap σ0 s s.heap [] ∧ cl_at ad σ0 a0 o0 := ⟨ad0, V, e0⟩
  replace hl : lv_has ls 4 [(0, .ref a0), (1, .int p0), (2, .int p1), (3, .int p2)] := hl
  unfold cl_X0_areSo at hF
  refine lv_aload_n hx hb dX0_areSo_0 rfl (lv_at hl 0 rfl) ?_
  refine lv_iload_n hx hb dX0_areSo_1 rfl (lv_at hl 1 rfl) ?_
  obtain ⟨hg, hF⟩ := dx_gd_some hF
  have k2 := of_decide_eq_true hg
  obtain ⟨r1, h1c, hF⟩ := dx_b1_some hF
  refine cl_ci (va_runV (As := [.int p0]) S (cm_X0_isPerson l D dA _ A a0 o0 p0 σ0 _ e0 h1c) (cwV 1 hts (lw_V q1059 q1061 qs17 q77 q1062) rfl rfl rfl ⟨rfl, cd_X0_isPerson⟩ ⟨Nat.le_of_ble_eq_true rfl, Nat.le_of_ble_eq_true rfl⟩) (cl_preV V [.int p0] e0 k2 rfl (by decide)) rfl rfl hl.1 rfl (lv_room (Nat.le_of_ble_eq_true rfl)) dX0_areSo_2 ⟨Nat.le_of_ble_eq_true rfl, Nat.le_of_ble_eq_true rfl⟩) V (fun ad _ _ hag hle V => ?_)
  replace e0 := e0.mv hag hle
  refine lv_if_eq (tgt := 27) hx hb dX0_areSo_5 (by decide) (fun hc => ?_) (fun hc => ?_)
  · replace hF := dx_ib_f (dx_bI_0 hc) hF
    refine lv_iconst (v := 0) hx hb dX0_areSo_27 (by decide) ?_
    replace hF := Option.some.inj hF
    subst hF
    exact cl_ri S V hr hlocks rfl dX0_areSo_28
  · replace hF := dx_ib_t (dx_bI_n hc) hF
    refine lv_iload_n hx hb dX0_areSo_8 rfl (lv_at hl 2 rfl) ?_
    obtain ⟨r3, h3c, hF⟩ := dx_b1_some hF
    refine dx_cPi S [.int p1] (cm_X0_isDay l p1 _ h3c) (va_cwS 1 hts (lw_S q1063 q1064 q77 q1065) rfl rfl rfl cd_X0_isDay ⟨Nat.le_of_ble_eq_true rfl, Nat.le_of_ble_eq_true rfl⟩) rfl rfl hl.1 (Nat.le_of_ble_eq_true rfl) dX0_areSo_9 ⟨Nat.le_of_ble_eq_true rfl, Nat.le_of_ble_eq_true rfl⟩ ?_
    refine lv_if_eq (tgt := 27) hx hb dX0_areSo_12 (by decide) (fun hc => ?_) (fun hc => ?_)
    · replace hF := dx_ib_f (dx_bI_0 hc) hF
      refine lv_iconst (v := 0) hx hb dX0_areSo_27 (by decide) ?_
      replace hF := Option.some.inj hF
      subst hF
      exact cl_ri S V hr hlocks rfl dX0_areSo_28
    · replace hF := dx_ib_t (dx_bI_n hc) hF
      refine lv_aload_n hx hb dX0_areSo_15 rfl (lv_at hl 0 rfl) ?_
      refine lv_iload_n hx hb dX0_areSo_16 rfl (lv_at hl 3 rfl) ?_
      obtain ⟨r4, h4c, hF⟩ := dx_b1_some hF
      refine cl_ci (va_runV (As := [.int p2]) S (cm_X0_isPerson l D dA _ A a0 o0 p2 σ0 _ e0 h4c) (cwV 1 hts (lw_V q1059 q1061 qs17 q77 q1062) rfl rfl rfl ⟨rfl, cd_X0_isPerson⟩ ⟨Nat.le_of_ble_eq_true rfl, Nat.le_of_ble_eq_true rfl⟩) (cl_preV V [.int p2] e0 k2 rfl (by decide)) rfl rfl hl.1 rfl (lv_room (Nat.le_of_ble_eq_true rfl)) dX0_areSo_17 ⟨Nat.le_of_ble_eq_true rfl, Nat.le_of_ble_eq_true rfl⟩) V (fun ad _ _ hag hle V => ?_)
      replace e0 := e0.mv hag hle
      refine lv_if_eq (tgt := 27) hx hb dX0_areSo_20 (by decide) (fun hc => ?_) (fun hc => ?_)
      · replace hF := dx_ib_f (dx_bI_0 hc) hF
        refine lv_iconst (v := 0) hx hb dX0_areSo_27 (by decide) ?_
        replace hF := Option.some.inj hF
        subst hF
        exact cl_ri S V hr hlocks rfl dX0_areSo_28
      · replace hF := dx_ib_t (dx_bI_n hc) hF
        refine lv_iconst (v := 1) hx hb dX0_areSo_23 (by decide) ?_
        refine lv_goto (tgt := 28) hx hb dX0_areSo_24 (by decide) ?_
        replace hF := Option.some.inj hF
        subst hF
        exact cl_ri S V hr hlocks rfl dX0_areSo_28
theorem cd_X0_has : yX0_has.cls ≠ "java/lang/invoke/MethodHandle" ∧ yX0_has.cls ≠ "java/lang/invoke/VarHandle" ∧ (parseMethodDescriptor yX0_has.desc).map (fun d => d.parameters.length) = some 2 := by decide +kernel
set_option maxHeartbeats 4000000 in
set_option maxRecDepth 100000 in
theorem cm_X0_has (l : Launch) (p0 : Int32) (p1 : Int32) (r : Bool) (hF : cl_X0_has p0 p1 = some r) : dx_Pi l yX0_has cX0_has 2 .boolean ({ frames := 0, cells := 0, slots := 0, locals := 0 }) [.int p0, .int p1] (dx_bI r) := by
  refine dx_in RX0 rfl (by decide) (Nat.le_of_ble_eq_true rfl) ?_
  intro p e s m below meth c ls S hr hlocks hv hl
  have hx := S.1
  have hb := S.2.1
  have hown := S.2.2.2.1
  have hts := S.2.2.2.2
  replace hl : lv_has ls 2 [(0, .int p0), (1, .int p1)] := hl
  unfold cl_X0_has at hF
  refine lv_iload_n hx hb dX0_has_0 rfl (lv_at hl 0 rfl) ?_
  refine lv_iload_n hx hb dX0_has_1 rfl (lv_at hl 1 rfl) ?_
  refine lv_ishr hx hb dX0_has_2 ?_
  refine lv_iconst (v := 1) hx hb dX0_has_3 (by decide) ?_
  refine lv_iand hx hb dX0_has_4 ?_
  refine lv_iconst (v := 1) hx hb dX0_has_5 (by decide) ?_
  refine lv_icmp_ne (tgt := 13) hx hb dX0_has_6 (by decide) (fun hc => ?_) (fun hc => ?_)
  · replace hF := (if_neg hc).symm.trans hF
    refine lv_iconst (v := 0) hx hb dX0_has_13 (by decide) ?_
    replace hF := Option.some.inj hF
    subst hF
    exact dx_rPi S hr hlocks rfl dX0_has_14
  · replace hF := (if_pos hc).symm.trans hF
    refine lv_iconst (v := 1) hx hb dX0_has_9 (by decide) ?_
    refine lv_goto (tgt := 14) hx hb dX0_has_10 (by decide) ?_
    replace hF := Option.some.inj hF
    subst hF
    exact dx_rPi S hr hlocks rfl dX0_has_14
theorem cd_X2_otherOf : yX2_otherOf.cls ≠ "java/lang/invoke/MethodHandle" ∧ yX2_otherOf.cls ≠ "java/lang/invoke/VarHandle" ∧ (parseMethodDescriptor yX2_otherOf.desc).map (fun d => d.parameters.length) = some 2 := by decide +kernel
set_option maxHeartbeats 4000000 in
set_option maxRecDepth 100000 in
theorem cm_X2_otherOf (l : Launch) (D : va_G) (dA : Nat → ClassId) (ad0 : Nat → Nat) (A : Nat → Prop) (a0 : Nat) (o0 : Nat) (p0 : Int32) (p1 : Int32) (σ0 : cl_S) (r : Int32) (e0 : cl_at ad0 σ0 a0 o0) (hF : cl_X2_otherOf o0 σ0 p0 p1 = some r) : cl_Ci l yX2_otherOf cX2_otherOf 3 .int ({ frames := 0, cells := 0, slots := 0, locals := 0 }) D dA ad0 A [.ref a0, .int p0, .int p1] σ0 r σ0 := by
  refine cl_in RX2 rfl (by decide) (Nat.le_of_ble_eq_true rfl) ?_
  intro p e s m below meth c ls S hr hlocks hini hv hl
  have hx := S.1
  have hb := S.2.1
  have hown := S.2.2.2.1
  have hts := S.2.2.2.2
  obtain ⟨hN, hK, hP, hD, hA, hZ⟩ := hv
  have V : cl_V D dA (ad0, cl_n σ0) ad0 A s.heap σ0 s s.heap [] := ⟨hN, hK, hP, hD, va_S.rf, hA, hZ, fun _ _ => rfl, Nat.le_refl _⟩
  obtain ⟨ad, V, e0⟩ : ∃ ad, cl_V D dA (ad0, cl_n σ0) ad A s.heap σ0 s s.heap [] ∧ cl_at ad σ0 a0 o0 := ⟨ad0, V, e0⟩
  replace hl : lv_has ls 3 [(0, .ref a0), (1, .int p0), (2, .int p1)] := hl
  unfold cl_X2_otherOf at hF
  refine lv_aload_n hx hb dX2_otherOf_0 rfl (lv_at hl 0 rfl) ?_
  obtain ⟨hg, hF⟩ := dx_gd_some hF
  have k1 := of_decide_eq_true hg
  obtain ⟨hg, hF⟩ := dx_gd_some hF
  refine cl_gr S V e0 k1 rfl (by decide) in_X2 6 (by decide) rfl q170 rfl dX2_otherOf_1 (of_decide_eq_true hg) (fun bb2 ee2 => ?_)
  refine lv_iload_n hx hb dX2_otherOf_4 rfl (lv_at hl 1 rfl) ?_
  obtain ⟨hg, hF⟩ := dx_gd_some hF
  have k3 := of_decide_eq_true hg
  obtain ⟨hg, hF⟩ := dx_gd_some hF
  refine cl_ld S V ee2 k3 (dx_inb_in hg) dX2_otherOf_5 ?_
  refine lv_iload_n hx hb dX2_otherOf_6 rfl (lv_at hl 2 rfl) ?_
  refine lv_icmp_ne (tgt := 19) hx hb dX2_otherOf_7 (by decide) (fun hc => ?_) (fun hc => ?_)
  · replace hF := (if_neg hc).symm.trans hF
    refine lv_aload_n hx hb dX2_otherOf_19 rfl (lv_at hl 0 rfl) ?_
    obtain ⟨hg, hF⟩ := dx_gd_some hF
    refine cl_gr S V e0 k1 rfl (by decide) in_X2 7 (by decide) rfl q175 rfl dX2_otherOf_20 (of_decide_eq_true hg) (fun bb4 ee4 => ?_)
    refine lv_iload_n hx hb dX2_otherOf_23 rfl (lv_at hl 1 rfl) ?_
    obtain ⟨hg, hF⟩ := dx_gd_some hF
    have k5 := of_decide_eq_true hg
    obtain ⟨hg, hF⟩ := dx_gd_some hF
    refine cl_ld S V ee4 k5 (dx_inb_in hg) dX2_otherOf_24 ?_
    refine lv_iload_n hx hb dX2_otherOf_25 rfl (lv_at hl 2 rfl) ?_
    refine lv_icmp_ne (tgt := 38) hx hb dX2_otherOf_26 (by decide) (fun hc => ?_) (fun hc => ?_)
    · replace hF := (if_neg hc).symm.trans hF
      refine lv_ldc hx hb hown (hts _ q1174) dX2_otherOf_38 ?_
      replace hF := Option.some.inj hF
      subst hF
      exact cl_ri S V hr hlocks rfl dX2_otherOf_40
    · replace hF := (if_pos hc).symm.trans hF
      refine lv_aload_n hx hb dX2_otherOf_29 rfl (lv_at hl 0 rfl) ?_
      obtain ⟨hg, hF⟩ := dx_gd_some hF
      refine cl_gr S V e0 k1 rfl (by decide) in_X2 6 (by decide) rfl q170 rfl dX2_otherOf_30 (of_decide_eq_true hg) (fun bb6 ee6 => ?_)
      refine lv_iload_n hx hb dX2_otherOf_33 rfl (lv_at hl 1 rfl) ?_
      obtain ⟨hg, hF⟩ := dx_gd_some hF
      refine cl_ld S V ee6 k3 (dx_inb_in hg) dX2_otherOf_34 ?_
      refine lv_goto (tgt := 40) hx hb dX2_otherOf_35 (by decide) ?_
      replace hF := Option.some.inj hF
      subst hF
      exact cl_ri S V hr hlocks rfl dX2_otherOf_40
  · replace hF := (if_pos hc).symm.trans hF
    refine lv_aload_n hx hb dX2_otherOf_10 rfl (lv_at hl 0 rfl) ?_
    obtain ⟨hg, hF⟩ := dx_gd_some hF
    refine cl_gr S V e0 k1 rfl (by decide) in_X2 7 (by decide) rfl q175 rfl dX2_otherOf_11 (of_decide_eq_true hg) (fun bb7 ee7 => ?_)
    refine lv_iload_n hx hb dX2_otherOf_14 rfl (lv_at hl 1 rfl) ?_
    obtain ⟨hg, hF⟩ := dx_gd_some hF
    have k8 := of_decide_eq_true hg
    obtain ⟨hg, hF⟩ := dx_gd_some hF
    refine cl_ld S V ee7 k8 (dx_inb_in hg) dX2_otherOf_15 ?_
    refine lv_goto (tgt := 40) hx hb dX2_otherOf_16 (by decide) ?_
    replace hF := Option.some.inj hF
    subst hF
    exact cl_ri S V hr hlocks rfl dX2_otherOf_40
theorem cd_X10_catches : yX10_catches.cls ≠ "java/lang/invoke/MethodHandle" ∧ yX10_catches.cls ≠ "java/lang/invoke/VarHandle" ∧ (parseMethodDescriptor yX10_catches.desc).map (fun d => d.parameters.length) = some 0 := by decide +kernel
set_option maxHeartbeats 4000000 in
set_option maxRecDepth 100000 in
theorem cm_X10_catches (l : Launch) (D : va_G) (dA : Nat → ClassId) (ad0 : Nat → Nat) (A : Nat → Prop) (a0 : Nat) (o0 : Nat)  (σ0 : cl_S) (r : Bool) (e0 : cl_at ad0 σ0 a0 o0) (hF : cl_X10_catches o0 σ0 = some r) : cl_Ci l yX10_catches cX10_catches 1 .boolean ({ frames := 0, cells := 0, slots := 0, locals := 0 }) D dA ad0 A [.ref a0] σ0 (dx_bI r) σ0 := by
  refine cl_in RX10 rfl (by decide) (Nat.le_of_ble_eq_true rfl) ?_
  intro p e s m below meth c ls S hr hlocks hini hv hl
  have hx := S.1
  have hb := S.2.1
  have hown := S.2.2.2.1
  have hts := S.2.2.2.2
  obtain ⟨hN, hK, hP, hD, hA, hZ⟩ := hv
  have V : cl_V D dA (ad0, cl_n σ0) ad0 A s.heap σ0 s s.heap [] := ⟨hN, hK, hP, hD, va_S.rf, hA, hZ, fun _ _ => rfl, Nat.le_refl _⟩
  obtain ⟨ad, V, e0⟩ : ∃ ad, cl_V D dA (ad0, cl_n σ0) ad A s.heap σ0 s s.heap [] ∧ cl_at ad σ0 a0 o0 := ⟨ad0, V, e0⟩
  replace hl : lv_has ls 1 [(0, .ref a0)] := hl
  unfold cl_X10_catches at hF
  refine lv_iconst (v := 1) hx hb dX10_catches_0 (by decide) ?_
  replace hF := Option.some.inj hF
  subst hF
  exact cl_ri S V hr hlocks rfl dX10_catches_1
theorem cd_X15_catches : yX15_catches.cls ≠ "java/lang/invoke/MethodHandle" ∧ yX15_catches.cls ≠ "java/lang/invoke/VarHandle" ∧ (parseMethodDescriptor yX15_catches.desc).map (fun d => d.parameters.length) = some 0 := by decide +kernel
set_option maxHeartbeats 4000000 in
set_option maxRecDepth 100000 in
theorem cm_X15_catches (l : Launch) (D : va_G) (dA : Nat → ClassId) (ad0 : Nat → Nat) (A : Nat → Prop) (a0 : Nat) (o0 : Nat)  (σ0 : cl_S) (r : Bool) (e0 : cl_at ad0 σ0 a0 o0) (hF : cl_X15_catches o0 σ0 = some r) : cl_Ci l yX15_catches cX15_catches 1 .boolean ({ frames := 1, cells := 0, slots := 0, locals := 20 }) D dA ad0 A [.ref a0] σ0 (dx_bI r) σ0 := by
  refine cl_in RX15 rfl (by decide) (Nat.le_of_ble_eq_true rfl) ?_
  intro p e s m below meth c ls S hr hlocks hini hv hl
  have hx := S.1
  have hb := S.2.1
  have hown := S.2.2.2.1
  have hts := S.2.2.2.2
  obtain ⟨hN, hK, hP, hD, hA, hZ⟩ := hv
  have V : cl_V D dA (ad0, cl_n σ0) ad0 A s.heap σ0 s s.heap [] := ⟨hN, hK, hP, hD, va_S.rf, hA, hZ, fun _ _ => rfl, Nat.le_refl _⟩
  obtain ⟨ad, V, e0⟩ : ∃ ad, cl_V D dA (ad0, cl_n σ0) ad A s.heap σ0 s s.heap [] ∧ cl_at ad σ0 a0 o0 := ⟨ad0, V, e0⟩
  replace hl : lv_has ls 1 [(0, .ref a0)] := hl
  unfold cl_X15_catches at hF
  refine lv_aload_n hx hb dX15_catches_0 rfl (lv_at hl 0 rfl) ?_
  obtain ⟨hg, hF⟩ := dx_gd_some hF
  have k2 := of_decide_eq_true hg
  obtain ⟨r1, h1c, hF⟩ := dx_b1_some hF
  refine cl_ci (cl_runSU (n := 0) (V.2.1.1 13 _ rfl).2 (As := []) S (cm_X10_catches l D dA _ A a0 o0  σ0 _ e0 h1c) rfl rfl q1184 q1185 q972 (Or.inr q964) q1176 q105 q1188 rfl (by decide +kernel) ⟨Nat.le_of_ble_eq_true rfl, Nat.le_of_ble_eq_true rfl⟩ (cl_preV V [] e0 k2 rfl (by decide)) rfl rfl hl.1 rfl (lv_room (Nat.le_of_ble_eq_true rfl)) dX15_catches_1 ⟨Nat.le_of_ble_eq_true rfl, Nat.le_of_ble_eq_true rfl⟩) V (fun ad _ _ hag hle V => ?_)
  replace e0 := e0.mv hag hle
  refine lv_if_ne (tgt := 11) hx hb dX15_catches_4 (by decide) (fun hc => ?_) (fun hc => ?_)
  · replace hF := dx_ib_t (dx_bI_n hc) hF
    refine lv_iconst (v := 0) hx hb dX15_catches_11 (by decide) ?_
    replace hF := Option.some.inj hF
    subst hF
    exact cl_ri S V hr hlocks rfl dX15_catches_12
  · replace hF := dx_ib_f (dx_bI_0 hc) hF
    refine lv_iconst (v := 1) hx hb dX15_catches_7 (by decide) ?_
    refine lv_goto (tgt := 12) hx hb dX15_catches_8 (by decide) ?_
    replace hF := Option.some.inj hF
    subst hF
    exact cl_ri S V hr hlocks rfl dX15_catches_12
set_option maxHeartbeats 4000000 in
set_option maxRecDepth 100000 in
theorem cl_dr_catches {p : Program} {l : Launch} {e : Env} {R : Room} {s : State} {m : MethodId} {args : Array Value} {below : List Frame} {meth : Method} {c : Code} {H : Heap} {locs : List Loc} {cells slots : Nat} {cc : ByteArray} {nL pc : Nat} {ls : Array Slot} {rest : List Value} {D : va_G} {dA : Nat → ClassId} {B : (Nat → Nat) × Nat} {ad : Nat → Nat} {A : Nat → Prop} {H0 : Heap} {σ0 : cl_S} {own : String} {index : Nat} (S : CallFix p m c cc nL s args lw_all own) (V : cl_V D dA B ad A H0 σ0 s H locs) {a0 o0 : Nat} (e0 : cl_at ad σ0 a0 o0) (hlink : Cond.methodLink own index ⟨"DatedContacts$Person", "catches", "()Z"⟩ ∈ lw_all) {r : Bool} (hF : cl_dP_catches o0 σ0 = some r) (hR : 2 ≤ R.frames ∧ 40 ≤ R.locals) (hsz : ls.size = nL) (hW : (rest.map fun v => v.category).sum ≤ 8) (hdg : decode cc pc = .ok (.invokevirtual index, 3)) (hf : cells + 0 ≤ R.cells ∧ slots + 0 ≤ R.slots) : va_Run p l e R s m args below meth c H locs cells slots 0 0 (F0 m pc ls ([].reverse ++ .ref a0 :: rest)) rest (cl_Qi D dA ad A σ0 σ0 (dx_bI r) ((.ref a0 :: [] : List Value)).toArray) A := by
  unfold cl_dP_catches at hF
  by_cases hk : cl_k σ0 o0 = 9
  · replace hF := (if_pos hk).symm.trans hF
    exact va_Run.wd (va_runU (As := []) S (cm_X10_catches l D dA _ A a0 o0 σ0 _ e0 hF) (va_cwA (owner := "DatedContacts$Person") 0 S.2.2.2.2 (lw_U hlink q1177 q1180 q1176 q105 q1188) rfl rfl rfl (V.1.1 _ cn_q1186) (by decide +kernel) ⟨Nat.le_trans (Nat.le_of_ble_eq_true rfl) hR.1, Nat.le_trans (Nat.le_of_ble_eq_true rfl) hR.2⟩) (cl_preV V [] e0 hk rfl (by decide)) rfl rfl hsz rfl (lv_room hW) hdg ⟨Nat.le_trans (Nat.add_le_add_left (Nat.le_of_ble_eq_true rfl) _) hf.1, Nat.le_trans (Nat.add_le_add_left (Nat.le_of_ble_eq_true rfl) _) hf.2⟩) (Nat.le_of_ble_eq_true rfl) (Nat.le_of_ble_eq_true rfl)
  replace hF := (if_neg hk).symm.trans hF
  clear hk
  by_cases hk : cl_k σ0 o0 = 10
  · replace hF := (if_pos hk).symm.trans hF
    exact va_Run.wd (va_runU (As := []) S (cm_X10_catches l D dA _ A a0 o0 σ0 _ e0 hF) (va_cwA (owner := "DatedContacts$Person") 0 S.2.2.2.2 (lw_U hlink q1177 q1179 q1176 q105 q1188) rfl rfl rfl (V.1.1 _ cn_q1186) (by decide +kernel) ⟨Nat.le_trans (Nat.le_of_ble_eq_true rfl) hR.1, Nat.le_trans (Nat.le_of_ble_eq_true rfl) hR.2⟩) (cl_preV V [] e0 hk rfl (by decide)) rfl rfl hsz rfl (lv_room hW) hdg ⟨Nat.le_trans (Nat.add_le_add_left (Nat.le_of_ble_eq_true rfl) _) hf.1, Nat.le_trans (Nat.add_le_add_left (Nat.le_of_ble_eq_true rfl) _) hf.2⟩) (Nat.le_of_ble_eq_true rfl) (Nat.le_of_ble_eq_true rfl)
  replace hF := (if_neg hk).symm.trans hF
  clear hk
  by_cases hk : cl_k σ0 o0 = 11
  · replace hF := (if_pos hk).symm.trans hF
    exact va_Run.wd (va_runU (As := []) S (cm_X10_catches l D dA _ A a0 o0 σ0 _ e0 hF) (va_cwA (owner := "DatedContacts$Person") 0 S.2.2.2.2 (lw_U hlink q1177 q1178 q1176 q105 q1188) rfl rfl rfl (V.1.1 _ cn_q1186) (by decide +kernel) ⟨Nat.le_trans (Nat.le_of_ble_eq_true rfl) hR.1, Nat.le_trans (Nat.le_of_ble_eq_true rfl) hR.2⟩) (cl_preV V [] e0 hk rfl (by decide)) rfl rfl hsz rfl (lv_room hW) hdg ⟨Nat.le_trans (Nat.add_le_add_left (Nat.le_of_ble_eq_true rfl) _) hf.1, Nat.le_trans (Nat.add_le_add_left (Nat.le_of_ble_eq_true rfl) _) hf.2⟩) (Nat.le_of_ble_eq_true rfl) (Nat.le_of_ble_eq_true rfl)
  replace hF := (if_neg hk).symm.trans hF
  clear hk
  by_cases hk : cl_k σ0 o0 = 12
  · replace hF := (if_pos hk).symm.trans hF
    exact va_Run.wd (va_runU (As := []) S (cm_X10_catches l D dA _ A a0 o0 σ0 _ e0 hF) (va_cwA (owner := "DatedContacts$Person") 0 S.2.2.2.2 (lw_U hlink q1177 q1187 q1176 q105 q1188) rfl rfl rfl (V.1.1 _ cn_q1186) (by decide +kernel) ⟨Nat.le_trans (Nat.le_of_ble_eq_true rfl) hR.1, Nat.le_trans (Nat.le_of_ble_eq_true rfl) hR.2⟩) (cl_preV V [] e0 hk rfl (by decide)) rfl rfl hsz rfl (lv_room hW) hdg ⟨Nat.le_trans (Nat.add_le_add_left (Nat.le_of_ble_eq_true rfl) _) hf.1, Nat.le_trans (Nat.add_le_add_left (Nat.le_of_ble_eq_true rfl) _) hf.2⟩) (Nat.le_of_ble_eq_true rfl) (Nat.le_of_ble_eq_true rfl)
  replace hF := (if_neg hk).symm.trans hF
  clear hk
  by_cases hk : cl_k σ0 o0 = 13
  · replace hF := (if_pos hk).symm.trans hF
    exact va_Run.wd (va_runU (As := []) S (cm_X15_catches l D dA _ A a0 o0 σ0 _ e0 hF) (va_cwA (owner := "DatedContacts$Person") 0 S.2.2.2.2 (lw_U hlink q1177 q1181 q1182 q110 q1183) rfl rfl rfl (V.1.1 _ cn_q1186) (by decide +kernel) ⟨Nat.le_trans (Nat.le_of_ble_eq_true rfl) hR.1, Nat.le_trans (Nat.le_of_ble_eq_true rfl) hR.2⟩) (cl_preV V [] e0 hk rfl (by decide)) rfl rfl hsz rfl (lv_room hW) hdg ⟨Nat.le_trans (Nat.add_le_add_left (Nat.le_of_ble_eq_true rfl) _) hf.1, Nat.le_trans (Nat.add_le_add_left (Nat.le_of_ble_eq_true rfl) _) hf.2⟩) (Nat.le_of_ble_eq_true rfl) (Nat.le_of_ble_eq_true rfl)
  replace hF := (if_neg hk).symm.trans hF
  clear hk
  cases hF
theorem cd_X17_daysFrom : yX17_daysFrom.cls ≠ "java/lang/invoke/MethodHandle" ∧ yX17_daysFrom.cls ≠ "java/lang/invoke/VarHandle" ∧ (parseMethodDescriptor yX17_daysFrom.desc).map (fun d => d.parameters.length) = some 2 := by decide +kernel
set_option maxHeartbeats 4000000 in
set_option maxRecDepth 100000 in
theorem cm_X17_daysFrom (l : Launch) (p0 : Int32) (p1 : Int32) (r : Int32) (hF : cl_X17_daysFrom p0 p1 = some r) : dx_Pi l yX17_daysFrom cX17_daysFrom 4 .int ({ frames := 1, cells := 0, slots := 0, locals := 21 }) [.int p0, .int p1] r := by
  refine dx_in RX17 rfl (by decide) (Nat.le_of_ble_eq_true rfl) ?_
  intro p e s m below meth c ls S hr hlocks hv hl
  have hx := S.1
  have hb := S.2.1
  have hown := S.2.2.2.1
  have hts := S.2.2.2.2
  replace hl : lv_has ls 4 [(0, .int p0), (1, .int p1)] := hl
  unfold cl_X17_daysFrom at hF
  have hL8 : ∀ (v1 : Int32) (n : Nat) (v2 : Int32) (v3 : Int32) (ls : Array Slot), dx_lp (fun x => cl_X17_daysFrom_L8 v1 x.1 x.2) n (v2, v3) = some r → lv_has ls 4 [(1, .int v1), (2, .int v2), (3, .int v3)] → W p l e ({ frames := 1, cells := 0, slots := 0, locals := 21 }) s m ([.int p0, .int p1] : List Value).toArray below meth c s.heap [] 0 0 (MQ below (vp_Si (fun r2 => r2 = r)) ([.int p0, .int p1] : List Value).toArray s 0 0 (fun _ => False)) (F0 m 8 ls []) := by
    intro v1 n
    induction n with
    | zero =>
      intro v2 v3 ls hF hl
      exact (dx_lp_0 hF).elim
    | succ n ih8 =>
      intro v2 v3 ls hF hl
      obtain ⟨y8, hF, hz8⟩ := dx_lp_s hF
      replace hF : cl_X17_daysFrom_L8 v1 v2 v3 = some y8 := hF
      unfold cl_X17_daysFrom_L8 at hF
      refine lv_iload_n hx hb dX17_daysFrom_8 rfl (lv_at hl 2 rfl) ?_
      refine lv_iload_n hx hb dX17_daysFrom_9 rfl (lv_at hl 0 rfl) ?_
      refine lv_icmp_gt (tgt := 25) hx hb dX17_daysFrom_10 (by decide) (fun hc => ?_) (fun hc => ?_)
      · replace hF := (if_pos hc).symm.trans hF
        replace hF := dx_ex_k hF hz8
        refine lv_iload_n hx hb dX17_daysFrom_25 rfl (lv_at hl 1 rfl) ?_
        replace hF := Option.some.inj hF
        subst hF
        exact dx_rPi S hr hlocks rfl dX17_daysFrom_26
      · replace hF := (if_neg hc).symm.trans hF
        refine lv_iload_n hx hb dX17_daysFrom_13 rfl (lv_at hl 1 rfl) ?_
        refine lv_iconst (v := 1) hx hb dX17_daysFrom_14 (by decide) ?_
        refine lv_iload_n hx hb dX17_daysFrom_15 rfl (lv_at hl 2 rfl) ?_
        refine lv_ishl hx hb dX17_daysFrom_16 ?_
        refine lv_ior hx hb dX17_daysFrom_17 ?_
        refine lv_istore_n (lv' := [(2, .int (v2 ||| ((1 : Int32) <<< (v3 &&& 31)))), (1, .int v1), (3, .int v3)]) hx hb dX17_daysFrom_18 rfl hl (by decide) rfl (fun ls hl => ?_)
        refine lv_iinc (v := (v3 + (1 : Int32))) (lv' := [(3, .int (v3 + (1 : Int32))), (2, .int (v2 ||| ((1 : Int32) <<< (v3 &&& 31)))), (1, .int v1)]) hx hb dX17_daysFrom_19 hl (k := 2) rfl rfl (by decide) rfl (fun ls hl => ?_)
        refine lv_goto (tgt := 8) hx hb dX17_daysFrom_22 (by decide) ?_
        replace hF := Option.some.inj hF
        subst hF
        exact ih8 (v2 ||| ((1 : Int32) <<< (v3 &&& 31))) (v3 + (1 : Int32)) _ (dx_lk_l hz8) (lv_sub hl [2, 1, 0] rfl)
  refine lv_iconst (v := 0) hx hb dX17_daysFrom_0 (by decide) ?_
  refine lv_istore_n (lv' := [(2, .int (0 : Int32)), (0, .int p0), (1, .int p1)]) hx hb dX17_daysFrom_1 rfl hl (by decide) rfl (fun ls hl => ?_)
  refine lv_iconst (v := 0) hx hb dX17_daysFrom_2 (by decide) ?_
  refine lv_iload_n hx hb dX17_daysFrom_3 rfl (lv_at hl 1 rfl) ?_
  refine va_mmax hx hb (by rw [hl.1]; exact S.2.2.1) hown (hts _ q1204) (hts _ q677) (hts _ q100) (hts _ q678) (Nat.le_of_ble_eq_true rfl) (Nat.le_of_ble_eq_true rfl) (Nat.zero_le _) (Nat.zero_le _) dX17_daysFrom_4 ?_
  refine lv_istore_n (lv' := [(3, .int (if (0 : Int32) < p0 then p0 else (0 : Int32))), (2, .int (0 : Int32)), (0, .int p0), (1, .int p1)]) hx hb dX17_daysFrom_7 rfl hl (by decide) rfl (fun ls hl => ?_)
  exact hL8 p1 dx_fu (0 : Int32) (if (0 : Int32) < p0 then p0 else (0 : Int32)) _ hF (lv_sub hl [3, 1, 0] rfl)
theorem cd_X17_ahead : yX17_ahead.cls ≠ "java/lang/invoke/MethodHandle" ∧ yX17_ahead.cls ≠ "java/lang/invoke/VarHandle" ∧ (parseMethodDescriptor yX17_ahead.desc).map (fun d => d.parameters.length) = some 1 := by decide +kernel
set_option maxHeartbeats 4000000 in
set_option maxRecDepth 100000 in
theorem cm_X17_ahead (l : Launch) (D : va_G) (dA : Nat → ClassId) (ad0 : Nat → Nat) (A : Nat → Prop) (a0 : Nat) (o0 : Nat) (p0 : Int32) (σ0 : cl_S) (r : Int32) (e0 : cl_at ad0 σ0 a0 o0) (hF : cl_X17_ahead o0 σ0 p0 = some r) : cl_Ci l yX17_ahead cX17_ahead 2 .int ({ frames := 2, cells := 0, slots := 0, locals := 44 }) D dA ad0 A [.ref a0, .int p0] σ0 r σ0 := by
  refine cl_in RX17 rfl (by decide) (Nat.le_of_ble_eq_true rfl) ?_
  intro p e s m below meth c ls S hr hlocks hini hv hl
  have hx := S.1
  have hb := S.2.1
  have hown := S.2.2.2.1
  have hts := S.2.2.2.2
  obtain ⟨hN, hK, hP, hD, hA, hZ⟩ := hv
  have V : cl_V D dA (ad0, cl_n σ0) ad0 A s.heap σ0 s s.heap [] := ⟨hN, hK, hP, hD, va_S.rf, hA, hZ, fun _ _ => rfl, Nat.le_refl _⟩
  obtain ⟨ad, V, e0⟩ : ∃ ad, cl_V D dA (ad0, cl_n σ0) ad A s.heap σ0 s s.heap [] ∧ cl_at ad σ0 a0 o0 := ⟨ad0, V, e0⟩
  replace hl : lv_has ls 2 [(0, .ref a0), (1, .int p0)] := hl
  unfold cl_X17_ahead at hF
  refine lv_iload_n hx hb dX17_ahead_0 rfl (lv_at hl 1 rfl) ?_
  refine lv_aload_n hx hb dX17_ahead_1 rfl (lv_at hl 0 rfl) ?_
  obtain ⟨hg, hF⟩ := dx_gd_some hF
  have k2 := of_decide_eq_true hg
  obtain ⟨r1, h1c, hF⟩ := dx_b1_some hF
  refine cl_cFi (va_runF (V.2.1.1 14 _ rfl).2 (As := []) S (cm_X16_most l D dA _ A a0 o0  σ0 _ e0 h1c) (va_cwF 0 hts (lw_F q1198 q1023 q1025 q111 q1027) rfl rfl rfl (V.1.2.1 _ cf_Told_most) (by decide +kernel) ⟨Nat.le_of_ble_eq_true rfl, Nat.le_of_ble_eq_true rfl⟩) (cl_preV V [] e0 k2 rfl (by decide)) rfl rfl hl.1 rfl (lv_room (Nat.le_of_ble_eq_true rfl)) dX17_ahead_2 ⟨Nat.le_of_ble_eq_true rfl, Nat.le_of_ble_eq_true rfl⟩) V (fun ad _ _ hag hle V => ?_)
  replace e0 := e0.mv hag hle
  refine lv_isub hx hb dX17_ahead_7 ?_
  refine lv_iload_n hx hb dX17_ahead_8 rfl (lv_at hl 1 rfl) ?_
  refine lv_aload_n hx hb dX17_ahead_9 rfl (lv_at hl 0 rfl) ?_
  obtain ⟨r3, h3c, hF⟩ := dx_b1_some hF
  refine cl_cFi (va_runF (V.2.1.1 14 _ rfl).2 (As := []) S (cm_X16_least l D dA _ A a0 o0  σ0 _ e0 h3c) (va_cwF 0 hts (lw_F q1200 q1014 q1016 q111 q1018) rfl rfl rfl (V.1.2.1 _ cf_Told_least) (by decide +kernel) ⟨Nat.le_of_ble_eq_true rfl, Nat.le_of_ble_eq_true rfl⟩) (cl_preV V [] e0 k2 rfl (by decide)) rfl rfl hl.1 rfl (lv_room (Nat.le_of_ble_eq_true rfl)) dX17_ahead_10 ⟨Nat.le_of_ble_eq_true rfl, Nat.le_of_ble_eq_true rfl⟩) V (fun ad _ _ hag hle V => ?_)
  replace e0 := e0.mv hag hle
  refine lv_isub hx hb dX17_ahead_15 ?_
  obtain ⟨r4, h4c, hF⟩ := dx_b1_some hF
  refine dx_cPi S [.int (p0 - r1), .int (p0 - r3)] (cm_X17_daysFrom l (p0 - r1) (p0 - r3) _ h4c) (va_cwS 2 hts (lw_S q1201 q1202 q112 q1203) rfl rfl rfl cd_X17_daysFrom ⟨Nat.le_of_ble_eq_true rfl, Nat.le_of_ble_eq_true rfl⟩) rfl rfl hl.1 (Nat.le_of_ble_eq_true rfl) dX17_ahead_16 ⟨Nat.le_of_ble_eq_true rfl, Nat.le_of_ble_eq_true rfl⟩ ?_
  replace hF := Option.some.inj hF
  subst hF
  exact cl_ri S V hr hlocks rfl dX17_ahead_19
theorem cd_X2_gives : yX2_gives.cls ≠ "java/lang/invoke/MethodHandle" ∧ yX2_gives.cls ≠ "java/lang/invoke/VarHandle" ∧ (parseMethodDescriptor yX2_gives.desc).map (fun d => d.parameters.length) = some 3 := by decide +kernel
set_option maxHeartbeats 4000000 in
set_option maxRecDepth 100000 in
theorem cm_X2_gives (l : Launch) (D : va_G) (dA : Nat → ClassId) (ad0 : Nat → Nat) (A : Nat → Prop) (a0 : Nat) (o0 : Nat) (p0 : Int32) (p1 : Int32) (p2 : Int32) (σ0 : cl_S) (r : Bool) (e0 : cl_at ad0 σ0 a0 o0) (hF : cl_X2_gives o0 σ0 p0 p1 p2 = some r) : cl_Ci l yX2_gives cX2_gives 4 .boolean ({ frames := 3, cells := 0, slots := 0, locals := 65 }) D dA ad0 A [.ref a0, .int p0, .int p1, .int p2] σ0 (dx_bI r) σ0 := by
  refine cl_in RX2 rfl (by decide) (Nat.le_of_ble_eq_true rfl) ?_
  intro p e s m below meth c ls S hr hlocks hini hv hl
  have hx := S.1
  have hb := S.2.1
  have hown := S.2.2.2.1
  have hts := S.2.2.2.2
  obtain ⟨hN, hK, hP, hD, hA, hZ⟩ := hv
  have V : cl_V D dA (ad0, cl_n σ0) ad0 A s.heap σ0 s s.heap [] := ⟨hN, hK, hP, hD, va_S.rf, hA, hZ, fun _ _ => rfl, Nat.le_refl _⟩
  obtain ⟨ad, V, e0⟩ : ∃ ad, cl_V D dA (ad0, cl_n σ0) ad A s.heap σ0 s s.heap [] ∧ cl_at ad σ0 a0 o0 := ⟨ad0, V, e0⟩
  replace hl : lv_has ls 4 [(0, .ref a0), (1, .int p0), (2, .int p1), (3, .int p2)] := hl
  unfold cl_X2_gives at hF
  refine lv_aload_n hx hb dX2_gives_0 rfl (lv_at hl 0 rfl) ?_
  obtain ⟨hg, hF⟩ := dx_gd_some hF
  have k1 := of_decide_eq_true hg
  obtain ⟨hg, hF⟩ := dx_gd_some hF
  refine cl_gr S V e0 k1 rfl (by decide) in_X2 9 (by decide) rfl q184 rfl dX2_gives_1 (of_decide_eq_true hg) (fun bb2 ee2 => ?_)
  refine lv_iload_n hx hb dX2_gives_4 rfl (lv_at hl 2 rfl) ?_
  obtain ⟨hg, hF⟩ := dx_gd_some hF
  have k3 := of_decide_eq_true hg
  obtain ⟨hi4, hF⟩ := dx_gd_some hF
  by_cases hn5 : (cl_r σ0 (cl_r σ0 o0 9) p1.toNatClampNeg) = 0
  · replace hF := (if_pos hn5).symm.trans hF
    refine cl_ln 5 26 S V ee2 k3 (by decide) rfl (dx_inb_in hi4) dX2_gives_5 hn5 ?_
    refine lv_ifnullN (tgt := 26) hx hb dX2_gives_6 (by decide) ?_
    refine lv_iconst (v := 0) hx hb dX2_gives_26 (by decide) ?_
    replace hF := Option.some.inj hF
    subst hF
    exact cl_ri S V hr hlocks rfl dX2_gives_27
  · replace hF := (if_neg hn5).symm.trans hF
    refine cl_lr 5 26 S V ee2 k3 (by decide) rfl (dx_inb_in hi4) dX2_gives_5 hn5 (fun bb5 ee5 => ?_)
    refine lv_ifnull hx hb dX2_gives_6 ?_
    refine lv_aload_n hx hb dX2_gives_9 rfl (lv_at hl 0 rfl) ?_
    obtain ⟨hg, hF⟩ := dx_gd_some hF
    refine cl_gr S V e0 k1 rfl (by decide) in_X2 4 (by decide) rfl q164 rfl dX2_gives_10 (of_decide_eq_true hg) (fun bb6 ee6 => ?_)
    refine lv_aload_n hx hb dX2_gives_13 rfl (lv_at hl 0 rfl) ?_
    refine lv_iload_n hx hb dX2_gives_14 rfl (lv_at hl 1 rfl) ?_
    refine lv_iload_n hx hb dX2_gives_15 rfl (lv_at hl 2 rfl) ?_
    obtain ⟨r7, h7c, hF⟩ := dx_b1_some hF
    refine cl_ci (va_runV (As := [.int p0, .int p1]) S (cm_X2_otherOf l D dA _ A a0 o0 p0 p1 σ0 _ e0 h7c) (cwV 2 hts (lw_V q1170 q1171 q1172 q79 q1173) rfl rfl rfl ⟨rfl, cd_X2_otherOf⟩ ⟨Nat.le_of_ble_eq_true rfl, Nat.le_of_ble_eq_true rfl⟩) (cl_preV V [.int p0, .int p1] e0 k1 rfl (by decide)) rfl rfl hl.1 rfl (lv_room (Nat.le_of_ble_eq_true rfl)) dX2_gives_16 ⟨Nat.le_of_ble_eq_true rfl, Nat.le_of_ble_eq_true rfl⟩) V (fun ad _ _ hag hle V => ?_)
    replace ee6 := ee6.mv hag hle
    replace e0 := e0.mv hag hle
    obtain ⟨hg, hF⟩ := dx_gd_some hF
    have k8 := of_decide_eq_true hg
    obtain ⟨hi9, hF⟩ := dx_gd_some hF
    obtain ⟨hg, hF⟩ := dx_gd_some hF
    refine cl_lr 4 25 S V ee6 k8 (by decide) rfl (dx_inb_in hi9) dX2_gives_19 (of_decide_eq_true hg) (fun bb10 ee10 => ?_)
    obtain ⟨r11, h11c, hF⟩ := dx_b1_some hF
    refine cl_ci (cl_dr_catches S V ee10 q1175 h11c ⟨Nat.le_of_ble_eq_true rfl, Nat.le_of_ble_eq_true rfl⟩ hl.1 (Nat.le_of_ble_eq_true rfl) dX2_gives_20 ⟨Nat.le_of_ble_eq_true rfl, Nat.le_of_ble_eq_true rfl⟩) V (fun ad _ _ hag hle V => ?_)
    replace e0 := e0.mv hag hle
    refine lv_if_ne (tgt := 28) hx hb dX2_gives_23 (by decide) (fun hc => ?_) (fun hc => ?_)
    · replace hF := dx_ib_t (dx_bI_n hc) hF
      refine lv_aload_n hx hb dX2_gives_28 rfl (lv_at hl 0 rfl) ?_
      obtain ⟨hg, hF⟩ := dx_gd_some hF
      refine cl_gr S V e0 k1 rfl (by decide) in_X2 9 (by decide) rfl q184 rfl dX2_gives_29 (of_decide_eq_true hg) (fun bb12 ee12 => ?_)
      refine lv_iload_n hx hb dX2_gives_32 rfl (lv_at hl 2 rfl) ?_
      obtain ⟨hi13, hF⟩ := dx_gd_some hF
      refine cl_lr 5 26 S V ee12 k3 (by decide) rfl (dx_inb_in hi13) dX2_gives_33 hn5 (fun bb14 ee14 => ?_)
      refine lv_aload_n hx hb dX2_gives_34 rfl (lv_at hl 0 rfl) ?_
      obtain ⟨hg, hF⟩ := dx_gd_some hF
      refine cl_gr S V e0 k1 rfl (by decide) in_X2 8 (by decide) rfl q179 rfl dX2_gives_35 (of_decide_eq_true hg) (fun bb15 ee15 => ?_)
      refine lv_iload_n hx hb dX2_gives_38 rfl (lv_at hl 1 rfl) ?_
      obtain ⟨hg, hF⟩ := dx_gd_some hF
      have k16 := of_decide_eq_true hg
      obtain ⟨hg, hF⟩ := dx_gd_some hF
      refine cl_ld S V ee15 k16 (dx_inb_in hg) dX2_gives_39 ?_
      obtain ⟨hg, hF⟩ := dx_gd_some hF
      have k18 := of_decide_eq_true hg
      obtain ⟨r17, h17c, hF⟩ := dx_b1_some hF
      refine cl_cFi (cl_runD (n := 1) (V.2.1.1 14 _ rfl).2 (As := [.int (cl_i σ0 (cl_r σ0 o0 8) p0.toNatClampNeg)]) S (cm_X17_ahead l D dA _ A bb14 (cl_r σ0 (cl_r σ0 o0 9) p1.toNatClampNeg) (cl_i σ0 (cl_r σ0 o0 8) p0.toNatClampNeg) σ0 _ ee14 h17c) rfl rfl q1190 V.1.2.2.2.2.2.2.1.2.1 (V.1.2.1 _ cf_Told_ahead) q1194 q112 q1196 (by decide +kernel) ⟨Nat.le_of_ble_eq_true rfl, Nat.le_of_ble_eq_true rfl⟩ (cl_preV V [.int (cl_i σ0 (cl_r σ0 o0 8) p0.toNatClampNeg)] ee14 k18 rfl (by decide)) rfl rfl hl.1 rfl (lv_room (Nat.le_of_ble_eq_true rfl)) dX2_gives_40 ⟨Nat.le_of_ble_eq_true rfl, Nat.le_of_ble_eq_true rfl⟩) V (fun ad _ _ hag hle V => ?_)
      replace e0 := e0.mv hag hle
      refine lv_iload_n hx hb dX2_gives_45 rfl (lv_at hl 3 rfl) ?_
      refine lv_iand hx hb dX2_gives_46 ?_
      refine lv_if_eq (tgt := 54) hx hb dX2_gives_47 (by decide) (fun hc => ?_) (fun hc => ?_)
      · replace hF := (if_pos hc).symm.trans hF
        refine lv_iconst (v := 0) hx hb dX2_gives_54 (by decide) ?_
        replace hF := Option.some.inj hF
        subst hF
        exact cl_ri S V hr hlocks rfl dX2_gives_55
      · replace hF := (if_neg hc).symm.trans hF
        refine lv_iconst (v := 1) hx hb dX2_gives_50 (by decide) ?_
        refine lv_goto (tgt := 55) hx hb dX2_gives_51 (by decide) ?_
        replace hF := Option.some.inj hF
        subst hF
        exact cl_ri S V hr hlocks rfl dX2_gives_55
    · replace hF := dx_ib_f (dx_bI_0 hc) hF
      refine lv_iconst (v := 0) hx hb dX2_gives_26 (by decide) ?_
      replace hF := Option.some.inj hF
      subst hF
      exact cl_ri S V hr hlocks rfl dX2_gives_27
theorem cd_X3_meet : yX3_meet.cls ≠ "java/lang/invoke/MethodHandle" ∧ yX3_meet.cls ≠ "java/lang/invoke/VarHandle" ∧ (parseMethodDescriptor yX3_meet.desc).map (fun d => d.parameters.length) = some 2 := by decide +kernel
set_option maxHeartbeats 4000000 in
set_option maxRecDepth 100000 in
theorem cm_X3_meet (l : Launch) (D : va_G) (dA : Nat → ClassId) (ad0 : Nat → Nat) (A : Nat → Prop) (a0 : Nat) (a1 : Nat) (o0 : Nat) (o1 : Nat) (p1 : Int32) (σ0 : cl_S) (σ' : cl_S) (e0 : cl_at ad0 σ0 a0 o0) (e1 : cl_at ad0 σ0 a1 o1) (hF : cl_X3_meet o0 o1 σ0 p1 = some σ') : cl_Cv l yX3_meet cX3_meet 7 ({ frames := 4, cells := 0, slots := 0, locals := 88 }) D dA ad0 A [.ref a0, .ref a1, .int p1] σ0 σ' := by
  refine cl_in RX3 rfl (by decide) (Nat.le_of_ble_eq_true rfl) ?_
  intro p e s m below meth c ls S hr hlocks hini hv hl
  have hx := S.1
  have hb := S.2.1
  have hown := S.2.2.2.1
  have hts := S.2.2.2.2
  obtain ⟨hN, hK, hP, hD, hA, hZ⟩ := hv
  have V : cl_V D dA (ad0, cl_n σ0) ad0 A s.heap σ0 s s.heap [] := ⟨hN, hK, hP, hD, va_S.rf, hA, hZ, fun _ _ => rfl, Nat.le_refl _⟩
  obtain ⟨ad, V, e0, e1⟩ : ∃ ad, cl_V D dA (ad0, cl_n σ0) ad A s.heap σ0 s s.heap [] ∧ cl_at ad σ0 a0 o0 ∧ cl_at ad σ0 a1 o1 := ⟨ad0, V, e0, e1⟩
  replace hl : lv_has ls 7 [(0, .ref a0), (1, .ref a1), (2, .int p1)] := hl
  unfold cl_X3_meet at hF
  have hJ67 : ∀ (σ : cl_S) (v2 : Int32) (v4 : Int32) (v6 : Bool) (ad : Nat → Nat) (H : Heap) (locs : List Loc) (ls : Array Slot), cl_X3_meet_J67 o0 o1 σ v2 v4 v6 = some σ' → cl_at ad σ a0 o0 → cl_at ad σ a1 o1 → cl_V D dA (ad0, cl_n σ0) ad A s.heap σ s H locs → lv_has ls 7 [(0, .ref a0), (1, .ref a1), (2, .int v2), (4, .int v4), (6, .int (dx_bI v6))] → W p l e ({ frames := 4, cells := 0, slots := 0, locals := 88 }) s m ([.ref a0, .ref a1, .int p1] : List Value).toArray below meth c H locs 0 0 (MQ below (cl_Qv D dA ad0 A σ0 σ') ([.ref a0, .ref a1, .int p1] : List Value).toArray s 0 0 A) (F0 m 67 ls []) := by
    intro σ v2 v4 v6 ad H locs ls hF e0 e1 V hl
    unfold cl_X3_meet_J67 at hF
    refine lv_iload hx hb dX3_meet_67 (lv_at hl 4 rfl) ?_
    refine lv_if_eq (tgt := 90) hx hb dX3_meet_69 (by decide) (fun hc => ?_) (fun hc => ?_)
    · replace hF := dx_ib_f (dx_bI_0 hc) hF
      replace hF := Option.some.inj hF
      subst hF
      exact cl_rv S V hr hlocks dX3_meet_90
    · replace hF := dx_ib_t (dx_bI_n hc) hF
      refine lv_aload_n hx hb dX3_meet_72 rfl (lv_at hl 0 rfl) ?_
      obtain ⟨hg, hF⟩ := dx_gd_some hF
      have k12 := of_decide_eq_true hg
      obtain ⟨hg, hF⟩ := dx_gd_some hF
      refine cl_gr S V e0 k12 rfl (by decide) in_X3 0 (by decide) rfl q214 rfl dX3_meet_73 (of_decide_eq_true hg) (fun bb13 ee13 => ?_)
      refine lv_iload hx hb dX3_meet_76 (lv_at hl 3 rfl) ?_
      refine lv_dup2_11 hx hb dX3_meet_78 rfl rfl ?_
      obtain ⟨hg, hF⟩ := dx_gd_some hF
      have k14 := of_decide_eq_true hg
      obtain ⟨hg, hF⟩ := dx_gd_some hF
      refine cl_ld S V ee13 k14 (dx_inb_in hg) dX3_meet_79 ?_
      refine lv_iconst (v := 1) hx hb dX3_meet_80 (by decide) ?_
      refine lv_aload_n hx hb dX3_meet_81 rfl (lv_at hl 1 rfl) ?_
      obtain ⟨hg, hF⟩ := dx_gd_some hF
      have k15 := of_decide_eq_true hg
      obtain ⟨hg, hF⟩ := dx_gd_some hF
      refine cl_gr S V e1 k15 rfl (by decide) in_X2 8 (by decide) rfl q180 rfl dX3_meet_82 (of_decide_eq_true hg) (fun bb16 ee16 => ?_)
      refine lv_iload_n hx hb dX3_meet_85 rfl (lv_at hl 2 rfl) ?_
      obtain ⟨hg, hF⟩ := dx_gd_some hF
      have k17 := of_decide_eq_true hg
      obtain ⟨hg, hF⟩ := dx_gd_some hF
      refine cl_ld S V ee16 k17 (dx_inb_in hg) dX3_meet_86 ?_
      refine lv_ishl hx hb dX3_meet_87 ?_
      refine lv_ior hx hb dX3_meet_88 ?_
      obtain ⟨hg, hF⟩ := dx_gd_some hF
      refine cl_st S V ee13 k14 (dx_inb_in hg) dX3_meet_89 (fun _ _ V => ?_)
      obtain ⟨σ18, eσ18⟩ : ∃ x, x = (cl_wi σ (cl_r σ o0 0) v4.toNatClampNeg ((cl_i σ (cl_r σ o0 0) v4.toNatClampNeg) ||| ((1 : Int32) <<< ((cl_i σ (cl_r σ o1 8) v2.toNatClampNeg) &&& 31)))) := ⟨_, rfl⟩
      rw [← eσ18] at V
      replace hF := dx_let_e eσ18 hF
      replace e0 : cl_at ad σ18 a0 o0 := by rw [eσ18]; exact e0
      replace e1 : cl_at ad σ18 a1 o1 := by rw [eσ18]; exact e1
      replace k12 : cl_k σ18 o0 = 3 := by rw [eσ18]; exact k12
      replace k14 : cl_k σ18 (cl_r σ o0 0) = 20 := by rw [eσ18]; exact k14
      replace k15 : cl_k σ18 o1 = 2 := by rw [eσ18]; exact k15
      replace k17 : cl_k σ18 (cl_r σ o1 8) = 20 := by rw [eσ18]; exact k17
      replace hF := Option.some.inj hF
      subst hF
      exact cl_rv S V hr hlocks dX3_meet_90
  refine lv_aload_n hx hb dX3_meet_0 rfl (lv_at hl 1 rfl) ?_
  obtain ⟨hg, hF⟩ := dx_gd_some hF
  have k1 := of_decide_eq_true hg
  obtain ⟨hg, hF⟩ := dx_gd_some hF
  refine cl_gr S V e1 k1 rfl (by decide) in_X2 7 (by decide) rfl q176 rfl dX3_meet_1 (of_decide_eq_true hg) (fun bb2 ee2 => ?_)
  refine lv_iload_n hx hb dX3_meet_4 rfl (lv_at hl 2 rfl) ?_
  obtain ⟨hg, hF⟩ := dx_gd_some hF
  have k3 := of_decide_eq_true hg
  obtain ⟨hg, hF⟩ := dx_gd_some hF
  refine cl_ld S V ee2 k3 (dx_inb_in hg) dX3_meet_5 ?_
  refine lv_istore_n (lv' := [(3, .int (cl_i σ0 (cl_r σ0 o1 7) p1.toNatClampNeg)), (0, .ref a0), (1, .ref a1), (2, .int p1)]) hx hb dX3_meet_6 rfl hl (by decide) rfl (fun ls hl => ?_)
  refine lv_aload_n hx hb dX3_meet_7 rfl (lv_at hl 2 rfl) ?_
  obtain ⟨hg, hF⟩ := dx_gd_some hF
  refine cl_gr S V e1 k1 rfl (by decide) in_X2 6 (by decide) rfl q171 rfl dX3_meet_8 (of_decide_eq_true hg) (fun bb4 ee4 => ?_)
  refine lv_iload_n hx hb dX3_meet_11 rfl (lv_at hl 3 rfl) ?_
  obtain ⟨hg, hF⟩ := dx_gd_some hF
  have k5 := of_decide_eq_true hg
  obtain ⟨hg, hF⟩ := dx_gd_some hF
  refine cl_ld S V ee4 k5 (dx_inb_in hg) dX3_meet_12 ?_
  refine lv_istore (lv' := [(4, .int (cl_i σ0 (cl_r σ0 o1 6) p1.toNatClampNeg)), (3, .int (cl_i σ0 (cl_r σ0 o1 7) p1.toNatClampNeg)), (0, .ref a0), (1, .ref a1), (2, .int p1)]) hx hb dX3_meet_13 hl (by decide) rfl (fun ls hl => ?_)
  refine lv_aload_n hx hb dX3_meet_15 rfl (lv_at hl 3 rfl) ?_
  refine lv_iload_n hx hb dX3_meet_16 rfl (lv_at hl 4 rfl) ?_
  refine lv_iload hx hb dX3_meet_17 (lv_at hl 0 rfl) ?_
  refine lv_aload_n hx hb dX3_meet_19 rfl (lv_at hl 2 rfl) ?_
  obtain ⟨hg, hF⟩ := dx_gd_some hF
  have k6 := of_decide_eq_true hg
  obtain ⟨hg, hF⟩ := dx_gd_some hF
  refine cl_gr S V e0 k6 rfl (by decide) in_X3 0 (by decide) rfl q214 rfl dX3_meet_20 (of_decide_eq_true hg) (fun bb7 ee7 => ?_)
  refine lv_iload hx hb dX3_meet_23 (lv_at hl 0 rfl) ?_
  obtain ⟨hg, hF⟩ := dx_gd_some hF
  have k8 := of_decide_eq_true hg
  obtain ⟨hg, hF⟩ := dx_gd_some hF
  refine cl_ld S V ee7 k8 (dx_inb_in hg) dX3_meet_25 ?_
  obtain ⟨r9, h9c, hF⟩ := dx_b1_some hF
  refine cl_ci (va_runV (As := [.int p1, .int (cl_i σ0 (cl_r σ0 o1 6) p1.toNatClampNeg), .int (cl_i σ0 (cl_r σ0 o0 0) (cl_i σ0 (cl_r σ0 o1 6) p1.toNatClampNeg).toNatClampNeg)]) S (cm_X2_gives l D dA _ A a1 o1 p1 (cl_i σ0 (cl_r σ0 o1 6) p1.toNatClampNeg) (cl_i σ0 (cl_r σ0 o0 0) (cl_i σ0 (cl_r σ0 o1 6) p1.toNatClampNeg).toNatClampNeg) σ0 _ e1 h9c) (cwV 3 hts (lw_V q1166 q1167 q1168 q79 q1169) rfl rfl rfl ⟨rfl, cd_X2_gives⟩ ⟨Nat.le_of_ble_eq_true rfl, Nat.le_of_ble_eq_true rfl⟩) (cl_preV V [.int p1, .int (cl_i σ0 (cl_r σ0 o1 6) p1.toNatClampNeg), .int (cl_i σ0 (cl_r σ0 o0 0) (cl_i σ0 (cl_r σ0 o1 6) p1.toNatClampNeg).toNatClampNeg)] e1 k1 rfl (by decide)) rfl rfl hl.1 rfl (lv_room (Nat.le_of_ble_eq_true rfl)) dX3_meet_26 ⟨Nat.le_of_ble_eq_true rfl, Nat.le_of_ble_eq_true rfl⟩) V (fun ad _ _ hag hle V => ?_)
  replace e0 := e0.mv hag hle
  replace e1 := e1.mv hag hle
  refine lv_istore (lv' := [(5, .int (dx_bI r9)), (4, .int (cl_i σ0 (cl_r σ0 o1 6) p1.toNatClampNeg)), (3, .int (cl_i σ0 (cl_r σ0 o1 7) p1.toNatClampNeg)), (0, .ref a0), (1, .ref a1), (2, .int p1)]) hx hb dX3_meet_29 hl (by decide) rfl (fun ls hl => ?_)
  refine lv_aload_n hx hb dX3_meet_31 rfl (lv_at hl 4 rfl) ?_
  refine lv_iload_n hx hb dX3_meet_32 rfl (lv_at hl 5 rfl) ?_
  refine lv_iload_n hx hb dX3_meet_33 rfl (lv_at hl 2 rfl) ?_
  refine lv_aload_n hx hb dX3_meet_34 rfl (lv_at hl 3 rfl) ?_
  obtain ⟨hg, hF⟩ := dx_gd_some hF
  refine cl_gr S V e0 k6 rfl (by decide) in_X3 0 (by decide) rfl q214 rfl dX3_meet_35 (of_decide_eq_true hg) (fun bb10 ee10 => ?_)
  refine lv_iload_n hx hb dX3_meet_38 rfl (lv_at hl 2 rfl) ?_
  obtain ⟨hg, hF⟩ := dx_gd_some hF
  refine cl_ld S V ee10 k8 (dx_inb_in hg) dX3_meet_39 ?_
  obtain ⟨r11, h11c, hF⟩ := dx_b1_some hF
  refine cl_ci (va_runV (As := [.int p1, .int (cl_i σ0 (cl_r σ0 o1 7) p1.toNatClampNeg), .int (cl_i σ0 (cl_r σ0 o0 0) (cl_i σ0 (cl_r σ0 o1 7) p1.toNatClampNeg).toNatClampNeg)]) S (cm_X2_gives l D dA _ A a1 o1 p1 (cl_i σ0 (cl_r σ0 o1 7) p1.toNatClampNeg) (cl_i σ0 (cl_r σ0 o0 0) (cl_i σ0 (cl_r σ0 o1 7) p1.toNatClampNeg).toNatClampNeg) σ0 _ e1 h11c) (cwV 3 hts (lw_V q1166 q1167 q1168 q79 q1169) rfl rfl rfl ⟨rfl, cd_X2_gives⟩ ⟨Nat.le_of_ble_eq_true rfl, Nat.le_of_ble_eq_true rfl⟩) (cl_preV V [.int p1, .int (cl_i σ0 (cl_r σ0 o1 7) p1.toNatClampNeg), .int (cl_i σ0 (cl_r σ0 o0 0) (cl_i σ0 (cl_r σ0 o1 7) p1.toNatClampNeg).toNatClampNeg)] e1 k1 rfl (by decide)) rfl rfl hl.1 rfl (lv_room (Nat.le_of_ble_eq_true rfl)) dX3_meet_40 ⟨Nat.le_of_ble_eq_true rfl, Nat.le_of_ble_eq_true rfl⟩) V (fun ad _ _ hag hle V => ?_)
  replace e0 := e0.mv hag hle
  replace e1 := e1.mv hag hle
  refine lv_istore (lv' := [(6, .int (dx_bI r11)), (5, .int (dx_bI r9)), (4, .int (cl_i σ0 (cl_r σ0 o1 6) p1.toNatClampNeg)), (3, .int (cl_i σ0 (cl_r σ0 o1 7) p1.toNatClampNeg)), (0, .ref a0), (1, .ref a1), (2, .int p1)]) hx hb dX3_meet_43 hl (by decide) rfl (fun ls hl => ?_)
  refine lv_iload hx hb dX3_meet_45 (lv_at hl 1 rfl) ?_
  refine lv_if_eq (tgt := 67) hx hb dX3_meet_47 (by decide) (fun hc => ?_) (fun hc => ?_)
  · replace hF := dx_ib_f (dx_bI_0 hc) hF
    exact hJ67 σ0 p1 (cl_i σ0 (cl_r σ0 o1 6) p1.toNatClampNeg) r11 _ _ _ _ hF e0 e1 V (lv_sub hl [4, 5, 6, 2, 0] rfl)
  · replace hF := dx_ib_t (dx_bI_n hc) hF
    refine lv_aload_n hx hb dX3_meet_50 rfl (lv_at hl 4 rfl) ?_
    obtain ⟨hg, hF⟩ := dx_gd_some hF
    refine cl_gr S V e0 k6 rfl (by decide) in_X3 0 (by decide) rfl q214 rfl dX3_meet_51 (of_decide_eq_true hg) (fun bb19 ee19 => ?_)
    refine lv_iload_n hx hb dX3_meet_54 rfl (lv_at hl 3 rfl) ?_
    refine lv_dup2_11 hx hb dX3_meet_55 rfl rfl ?_
    obtain ⟨hg, hF⟩ := dx_gd_some hF
    refine cl_ld S V ee19 k8 (dx_inb_in hg) dX3_meet_56 ?_
    refine lv_iconst (v := 1) hx hb dX3_meet_57 (by decide) ?_
    refine lv_aload_n hx hb dX3_meet_58 rfl (lv_at hl 5 rfl) ?_
    obtain ⟨hg, hF⟩ := dx_gd_some hF
    refine cl_gr S V e1 k1 rfl (by decide) in_X2 8 (by decide) rfl q180 rfl dX3_meet_59 (of_decide_eq_true hg) (fun bb20 ee20 => ?_)
    refine lv_iload_n hx hb dX3_meet_62 rfl (lv_at hl 6 rfl) ?_
    obtain ⟨hg, hF⟩ := dx_gd_some hF
    have k21 := of_decide_eq_true hg
    obtain ⟨hg, hF⟩ := dx_gd_some hF
    refine cl_ld S V ee20 k21 (dx_inb_in hg) dX3_meet_63 ?_
    refine lv_ishl hx hb dX3_meet_64 ?_
    refine lv_ior hx hb dX3_meet_65 ?_
    obtain ⟨hg, hF⟩ := dx_gd_some hF
    refine cl_st S V ee19 k8 (dx_inb_in hg) dX3_meet_66 (fun _ _ V => ?_)
    obtain ⟨σ22, eσ22⟩ : ∃ x, x = (cl_wi σ0 (cl_r σ0 o0 0) (cl_i σ0 (cl_r σ0 o1 7) p1.toNatClampNeg).toNatClampNeg ((cl_i σ0 (cl_r σ0 o0 0) (cl_i σ0 (cl_r σ0 o1 7) p1.toNatClampNeg).toNatClampNeg) ||| ((1 : Int32) <<< ((cl_i σ0 (cl_r σ0 o1 8) p1.toNatClampNeg) &&& 31)))) := ⟨_, rfl⟩
    rw [← eσ22] at V
    replace hF := dx_let_e eσ22 hF
    replace e0 : cl_at ad σ22 a0 o0 := by rw [eσ22]; exact e0
    replace e1 : cl_at ad σ22 a1 o1 := by rw [eσ22]; exact e1
    replace k1 : cl_k σ22 o1 = 2 := by rw [eσ22]; exact k1
    replace k3 : cl_k σ22 (cl_r σ0 o1 7) = 20 := by rw [eσ22]; exact k3
    replace k5 : cl_k σ22 (cl_r σ0 o1 6) = 20 := by rw [eσ22]; exact k5
    replace k6 : cl_k σ22 o0 = 3 := by rw [eσ22]; exact k6
    replace k8 : cl_k σ22 (cl_r σ0 o0 0) = 20 := by rw [eσ22]; exact k8
    replace k21 : cl_k σ22 (cl_r σ0 o1 8) = 20 := by rw [eσ22]; exact k21
    exact hJ67 σ22 p1 (cl_i σ0 (cl_r σ0 o1 6) p1.toNatClampNeg) r11 _ _ _ _ hF e0 e1 V (lv_sub hl [4, 5, 6, 2, 0] rfl)
