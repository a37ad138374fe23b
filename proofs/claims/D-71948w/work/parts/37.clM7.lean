/-! the class side read back and walked (printed by gen/clmain.py) -/
theorem cd_X0_kind : yX0_kind.cls ≠ "java/lang/invoke/MethodHandle" ∧ yX0_kind.cls ≠ "java/lang/invoke/VarHandle" ∧ (parseMethodDescriptor yX0_kind.desc).map (fun d => d.parameters.length) = some 1 := by decide +kernel
set_option maxHeartbeats 4000000 in
set_option maxRecDepth 100000 in
theorem cm_X0_kind (l : Launch) (D : va_G) (dA : Nat → ClassId) (ad0 : Nat → Nat) (A : Nat → Prop) (a0 : Nat) (o0 : Nat) (p0 : Int32) (σ0 : cl_S) (r : Int32) (e0 : cl_at ad0 σ0 a0 o0) (hF : cl_X0_kind o0 σ0 p0 = some r) : cl_Ci l yX0_kind cX0_kind 2 .int ({ frames := 2, cells := 0, slots := 0, locals := 46 }) D dA ad0 A [.ref a0, .int p0] σ0 r σ0 := by
  refine cl_in RX0 rfl (by decide) (Nat.le_of_ble_eq_true rfl) ?_
  intro p e s m below meth c ls S hr hlocks hini hv hl
  have hx := S.1
  have hb := S.2.1
  have hown := S.2.2.2.1
  have hts := S.2.2.2.2
  obtain ⟨hN, hK, hP, hD, hA, hZ⟩ := hv
  have V : cl_V D dA (ad0, cl_n σ0) ad0 A s.heap σ0 s s.heap [] := ⟨hN, hK, hP, hD, va_S.rf, hA, hZ, fun _ _ => rfl, Nat.le_refl _⟩
  obtain ⟨ad, V, e0⟩ : ∃ ad, cl_V D dA (ad0, cl_n σ0) ad A s.heap σ0 s s.heap [] ∧ cl_at ad σ0 a0 o0 := ⟨ad0, V, e0⟩
  replace hl : lv_has ls 2 [(0, .ref a0), (1, .int p0)] := hl
  unfold cl_X0_kind at hF
  refine lv_aload_n hx hb dX0_kind_0 rfl (lv_at hl 0 rfl) ?_
  refine lv_iload_n hx hb dX0_kind_1 rfl (lv_at hl 1 rfl) ?_
  obtain ⟨hg, hF⟩ := dx_gd_some hF
  have k2 := of_decide_eq_true hg
  obtain ⟨r1, h1c, hF⟩ := dx_b1_some hF
  refine cl_ci (va_runV (As := [.int p0]) S (cm_X0_isPerson l D dA _ A a0 o0 p0 σ0 _ e0 h1c) (cwV 1 hts (lw_V q1059 q1061 qs17 q77 q1062) rfl rfl rfl ⟨rfl, cd_X0_isPerson⟩ ⟨Nat.le_of_ble_eq_true rfl, Nat.le_of_ble_eq_true rfl⟩) (cl_preV V [.int p0] e0 k2 rfl (by decide)) rfl rfl hl.1 rfl (lv_room (Nat.le_of_ble_eq_true rfl)) dX0_kind_2 ⟨Nat.le_of_ble_eq_true rfl, Nat.le_of_ble_eq_true rfl⟩) V (fun ad _ _ hag hle V => ?_)
  replace e0 := e0.mv hag hle
  refine lv_if_eq (tgt := 23) hx hb dX0_kind_5 (by decide) (fun hc => ?_) (fun hc => ?_)
  · replace hF := dx_ib_f (dx_bI_0 hc) hF
    refine lv_ldc hx hb hown (hts _ q406) dX0_kind_23 ?_
    replace hF := Option.some.inj hF
    subst hF
    exact cl_ri S V hr hlocks rfl dX0_kind_25
  · replace hF := dx_ib_t (dx_bI_n hc) hF
    refine lv_aload_n hx hb dX0_kind_8 rfl (lv_at hl 0 rfl) ?_
    obtain ⟨hg, hF⟩ := dx_gd_some hF
    refine cl_gr S V e0 k2 rfl (by decide) in_X0 4 (by decide) rfl q272 rfl dX0_kind_9 (of_decide_eq_true hg) (fun bb3 ee3 => ?_)
    obtain ⟨hg, hF⟩ := dx_gd_some hF
    have k4 := of_decide_eq_true hg
    obtain ⟨hg, hF⟩ := dx_gd_some hF
    refine cl_gr S V ee3 k4 rfl (by decide) in_X2 4 (by decide) rfl q166 rfl dX0_kind_12 (of_decide_eq_true hg) (fun bb5 ee5 => ?_)
    refine lv_iload_n hx hb dX0_kind_15 rfl (lv_at hl 1 rfl) ?_
    obtain ⟨hg, hF⟩ := dx_gd_some hF
    have k6 := of_decide_eq_true hg
    obtain ⟨hi7, hF⟩ := dx_gd_some hF
    obtain ⟨hg, hF⟩ := dx_gd_some hF
    refine cl_lr 4 25 S V ee5 k6 (by decide) rfl (dx_inb_in hi7) dX0_kind_16 (of_decide_eq_true hg) (fun bb8 ee8 => ?_)
    obtain ⟨r9, h9c, hF⟩ := dx_b1_some hF
    refine cl_ci (cl_dr_kind S V ee8 q1103 h9c ⟨Nat.le_of_ble_eq_true rfl, Nat.le_of_ble_eq_true rfl⟩ hl.1 (Nat.le_of_ble_eq_true rfl) dX0_kind_17 ⟨Nat.le_of_ble_eq_true rfl, Nat.le_of_ble_eq_true rfl⟩) V (fun ad _ _ hag hle V => ?_)
    replace e0 := e0.mv hag hle
    refine lv_goto (tgt := 25) hx hb dX0_kind_20 (by decide) ?_
    replace hF := Option.some.inj hF
    subst hF
    exact cl_ri S V hr hlocks rfl dX0_kind_25
theorem cd_X10_number : yX10_number.cls ≠ "java/lang/invoke/MethodHandle" ∧ yX10_number.cls ≠ "java/lang/invoke/VarHandle" ∧ (parseMethodDescriptor yX10_number.desc).map (fun d => d.parameters.length) = some 0 := by decide +kernel
set_option maxHeartbeats 4000000 in
set_option maxRecDepth 100000 in
theorem cm_X10_number (l : Launch) (D : va_G) (dA : Nat → ClassId) (ad0 : Nat → Nat) (A : Nat → Prop) (a0 : Nat) (o0 : Nat)  (σ0 : cl_S) (r : Int32) (e0 : cl_at ad0 σ0 a0 o0) (hF : cl_X10_number o0 σ0 = some r) : cl_Ci l yX10_number cX10_number 1 .int ({ frames := 0, cells := 0, slots := 0, locals := 0 }) D dA ad0 A [.ref a0] σ0 r σ0 := by
  refine cl_in RX10 rfl (by decide) (Nat.le_of_ble_eq_true rfl) ?_
  intro p e s m below meth c ls S hr hlocks hini hv hl
  have hx := S.1
  have hb := S.2.1
  have hown := S.2.2.2.1
  have hts := S.2.2.2.2
  obtain ⟨hN, hK, hP, hD, hA, hZ⟩ := hv
  have V : cl_V D dA (ad0, cl_n σ0) ad0 A s.heap σ0 s s.heap [] := ⟨hN, hK, hP, hD, va_S.rf, hA, hZ, fun _ _ => rfl, Nat.le_refl _⟩
  obtain ⟨ad, V, e0⟩ : ∃ ad, cl_V D dA (ad0, cl_n σ0) ad A s.heap σ0 s s.heap [] ∧ cl_at ad σ0 a0 o0 := ⟨ad0, V, e0⟩
  replace hl : lv_has ls 1 [(0, .ref a0)] := hl
  unfold cl_X10_number at hF
  refine lv_aload_n hx hb dX10_number_0 rfl (lv_at hl 0 rfl) ?_
  obtain ⟨hg, hF⟩ := dx_gd_some hF
  have k1 := of_decide_eq_true hg
  refine cl_giP S V e0 k1 q937 dX10_number_1 ?_
  replace hF := Option.some.inj hF
  subst hF
  exact cl_ri S V hr hlocks rfl dX10_number_4
theorem cd_X18_init : yX18_init.cls ≠ "java/lang/invoke/MethodHandle" ∧ yX18_init.cls ≠ "java/lang/invoke/VarHandle" ∧ (parseMethodDescriptor yX18_init.desc).map (fun d => d.parameters.length) = some 2 := by decide +kernel
set_option maxHeartbeats 4000000 in
set_option maxRecDepth 100000 in
theorem cm_X18_init (l : Launch) (D : va_G) (dA : Nat → ClassId) (ad0 : Nat → Nat) (A : Nat → Prop) (a0 : Nat) (o0 : Nat) (p0 : Int32) (p1 : Int32) (σ0 : cl_S) (σ' : cl_S) (e0 : cl_at ad0 σ0 a0 o0) (hF : cl_X18_init o0 σ0 p0 p1 = some σ') : cl_Cv l yX18_init cX18_init 3 ({ frames := 1, cells := 0, slots := 0, locals := 20 }) D dA ad0 A [.ref a0, .int p0, .int p1] σ0 σ' := by
  refine cl_in RX18 rfl (by decide) (Nat.le_of_ble_eq_true rfl) ?_
  intro p e s m below meth c ls S hr hlocks hini hv hl
  have hx := S.1
  have hb := S.2.1
  have hown := S.2.2.2.1
  have hts := S.2.2.2.2
  obtain ⟨hN, hK, hP, hD, hA, hZ⟩ := hv
  have V : cl_V D dA (ad0, cl_n σ0) ad0 A s.heap σ0 s s.heap [] := ⟨hN, hK, hP, hD, va_S.rf, hA, hZ, fun _ _ => rfl, Nat.le_refl _⟩
  obtain ⟨ad, V, e0⟩ : ∃ ad, cl_V D dA (ad0, cl_n σ0) ad A s.heap σ0 s s.heap [] ∧ cl_at ad σ0 a0 o0 := ⟨ad0, V, e0⟩
  replace hl : lv_has ls 3 [(0, .ref a0), (1, .int p0), (2, .int p1)] := hl
  unfold cl_X18_init at hF
  refine lv_aload_n hx hb dX18_init_0 rfl (lv_at hl 0 rfl) ?_
  refine W.objInit hx hb hown (hts _ q1489) (hts _ q123) (hts _ q124) rfl (by rw [S.2.2.1]; exact hl.1) rfl dX18_init_1 (Nat.le_of_ble_eq_true rfl) (Nat.le_of_ble_eq_true rfl) ?_
  refine lv_aload_n hx hb dX18_init_4 rfl (lv_at hl 0 rfl) ?_
  refine lv_iload_n hx hb dX18_init_5 rfl (lv_at hl 1 rfl) ?_
  obtain ⟨hg, hF⟩ := dx_gd_some hF
  have k1 := of_decide_eq_true hg
  refine cl_piF S V e0 k1 rfl (by decide) in_X18 tyX18 tyX18_ok nmX18 0 (by decide) rfl q1490 rfl rfl rfl hini rfl dX18_init_6 (fun _ _ V => ?_)
  refine lv_aload_n hx hb dX18_init_9 rfl (lv_at hl 0 rfl) ?_
  refine lv_iload_n hx hb dX18_init_10 rfl (lv_at hl 2 rfl) ?_
  refine cl_piF S V e0 k1 rfl (by decide) in_X18 tyX18 tyX18_ok nmX18 1 (by decide) rfl q1491 rfl rfl rfl hini rfl dX18_init_11 (fun _ _ V => ?_)
  replace hF := Option.some.inj hF
  subst hF
  exact cl_rv S V hr hlocks dX18_init_14
theorem cd_X0_trace : yX0_trace.cls ≠ "java/lang/invoke/MethodHandle" ∧ yX0_trace.cls ≠ "java/lang/invoke/VarHandle" ∧ (parseMethodDescriptor yX0_trace.desc).map (fun d => d.parameters.length) = some 1 := by decide +kernel
set_option maxHeartbeats 4000000 in
set_option maxRecDepth 100000 in
theorem cm_X0_trace (l : Launch) (D : va_G) (dA : Nat → ClassId) (ad0 : Nat → Nat) (A : Nat → Prop) (a0 : Nat) (o0 : Nat) (p0 : Int32) (σ0 : cl_S) (r : Int32) (e0 : cl_at ad0 σ0 a0 o0) (hF : cl_X0_trace o0 σ0 p0 = some r) : cl_Ci l yX0_trace cX0_trace 2 .int ({ frames := 1, cells := 0, slots := 0, locals := 25 }) D dA ad0 A [.ref a0, .int p0] σ0 r σ0 := by
  refine cl_in RX0 rfl (by decide) (Nat.le_of_ble_eq_true rfl) ?_
  intro p e s m below meth c ls S hr hlocks hini hv hl
  have hx := S.1
  have hb := S.2.1
  have hown := S.2.2.2.1
  have hts := S.2.2.2.2
  obtain ⟨hN, hK, hP, hD, hA, hZ⟩ := hv
  have V : cl_V D dA (ad0, cl_n σ0) ad0 A s.heap σ0 s s.heap [] := ⟨hN, hK, hP, hD, va_S.rf, hA, hZ, fun _ _ => rfl, Nat.le_refl _⟩
  obtain ⟨ad, V, e0⟩ : ∃ ad, cl_V D dA (ad0, cl_n σ0) ad A s.heap σ0 s s.heap [] ∧ cl_at ad σ0 a0 o0 := ⟨ad0, V, e0⟩
  replace hl : lv_has ls 2 [(0, .ref a0), (1, .int p0)] := hl
  unfold cl_X0_trace at hF
  refine lv_iload_n hx hb dX0_trace_0 rfl (lv_at hl 1 rfl) ?_
  refine lv_i2l hx hb dX0_trace_1 rfl ?_
  refine lv_lconst (v := 0) hx hb dX0_trace_2 (by decide) ?_
  refine lv_aload_n hx hb dX0_trace_3 rfl (lv_at hl 0 rfl) ?_
  obtain ⟨hg, hF⟩ := dx_gd_some hF
  have k1 := of_decide_eq_true hg
  obtain ⟨hg, hF⟩ := dx_gd_some hF
  refine cl_gr S V e0 k1 rfl (by decide) in_X0 11 (by decide) rfl q279 rfl dX0_trace_4 (of_decide_eq_true hg) (fun bb2 ee2 => ?_)
  obtain ⟨hg, hF⟩ := dx_gd_some hF
  have k3 := of_decide_eq_true hg
  refine cl_giN S V ee2 k3 rfl (by decide) in_X5 1 (by decide) rfl cn_q262 rfl dX0_trace_7 ?_
  refine lv_iconst (v := 1) hx hb dX0_trace_10 (by decide) ?_
  refine lv_isub hx hb dX0_trace_11 ?_
  refine lv_i2l hx hb dX0_trace_12 rfl ?_
  obtain ⟨r4, h4c, hF⟩ := dx_b1_some hF
  refine dx_cPi S [.long p0.toInt64, .long (0 : Int64), .long (((cl_i σ0 (cl_r σ0 o0 11) 1) - (1 : Int32)).toInt64)] (cm_X0_isIn l p0.toInt64 (0 : Int64) (((cl_i σ0 (cl_r σ0 o0 11) 1) - (1 : Int32)).toInt64) _ h4c) (va_cwS 3 hts (lw_S q402 q403 q77 q404) rfl rfl rfl cd_X0_isIn ⟨Nat.le_of_ble_eq_true rfl, Nat.le_of_ble_eq_true rfl⟩) rfl rfl hl.1 (Nat.le_of_ble_eq_true rfl) dX0_trace_13 ⟨Nat.le_of_ble_eq_true rfl, Nat.le_of_ble_eq_true rfl⟩ ?_
  refine lv_if_eq (tgt := 31) hx hb dX0_trace_16 (by decide) (fun hc => ?_) (fun hc => ?_)
  · replace hF := dx_ib_f (dx_bI_0 hc) hF
    refine lv_ldc hx hb hown (hts _ q1134) dX0_trace_31 ?_
    replace hF := Option.some.inj hF
    subst hF
    exact cl_ri S V hr hlocks rfl dX0_trace_33
  · replace hF := dx_ib_t (dx_bI_n hc) hF
    refine lv_aload_n hx hb dX0_trace_19 rfl (lv_at hl 0 rfl) ?_
    obtain ⟨hg, hF⟩ := dx_gd_some hF
    refine cl_gr S V e0 k1 rfl (by decide) in_X0 11 (by decide) rfl q279 rfl dX0_trace_20 (of_decide_eq_true hg) (fun bb5 ee5 => ?_)
    obtain ⟨hg, hF⟩ := dx_gd_some hF
    refine cl_grN S V ee5 k3 rfl (by decide) in_X5 0 (by decide) rfl cn_q260 rfl dX0_trace_23 (of_decide_eq_true hg) (fun bb6 ee6 => ?_)
    refine lv_iload_n hx hb dX0_trace_26 rfl (lv_at hl 1 rfl) ?_
    obtain ⟨hg, hF⟩ := dx_gd_some hF
    have k7 := of_decide_eq_true hg
    obtain ⟨hg, hF⟩ := dx_gd_some hF
    refine cl_ld S V ee6 k7 (dx_inb_in hg) dX0_trace_27 ?_
    refine lv_goto (tgt := 33) hx hb dX0_trace_28 (by decide) ?_
    replace hF := Option.some.inj hF
    subst hF
    exact cl_ri S V hr hlocks rfl dX0_trace_33
theorem cd_X0_rowsThere : yX0_rowsThere.cls ≠ "java/lang/invoke/MethodHandle" ∧ yX0_rowsThere.cls ≠ "java/lang/invoke/VarHandle" ∧ (parseMethodDescriptor yX0_rowsThere.desc).map (fun d => d.parameters.length) = some 0 := by decide +kernel
set_option maxHeartbeats 4000000 in
set_option maxRecDepth 100000 in
theorem cm_X0_rowsThere (l : Launch) (D : va_G) (dA : Nat → ClassId) (ad0 : Nat → Nat) (A : Nat → Prop) (a0 : Nat) (o0 : Nat)  (σ0 : cl_S) (r : Int32) (e0 : cl_at ad0 σ0 a0 o0) (hF : cl_X0_rowsThere o0 σ0 = some r) : cl_Ci l yX0_rowsThere cX0_rowsThere 3 .int ({ frames := 0, cells := 0, slots := 0, locals := 0 }) D dA ad0 A [.ref a0] σ0 r σ0 := by
  refine cl_in RX0 rfl (by decide) (Nat.le_of_ble_eq_true rfl) ?_
  intro p e s m below meth c ls S hr hlocks hini hv hl
  have hx := S.1
  have hb := S.2.1
  have hown := S.2.2.2.1
  have hts := S.2.2.2.2
  obtain ⟨hN, hK, hP, hD, hA, hZ⟩ := hv
  have V : cl_V D dA (ad0, cl_n σ0) ad0 A s.heap σ0 s s.heap [] := ⟨hN, hK, hP, hD, va_S.rf, hA, hZ, fun _ _ => rfl, Nat.le_refl _⟩
  obtain ⟨ad, V, e0⟩ : ∃ ad, cl_V D dA (ad0, cl_n σ0) ad A s.heap σ0 s s.heap [] ∧ cl_at ad σ0 a0 o0 := ⟨ad0, V, e0⟩
  replace hl : lv_has ls 3 [(0, .ref a0)] := hl
  unfold cl_X0_rowsThere at hF
  have hL4 : ∀  (n : Nat) (v1 : Int32) (v2 : Int32) (ad : Nat → Nat) (H : Heap) (locs : List Loc) (ls : Array Slot), dx_lp (fun x => cl_X0_rowsThere_L4 o0 σ0 x.1 x.2) n (v1, v2) = some r → cl_at ad σ0 a0 o0 → cl_V D dA (ad0, cl_n σ0) ad A s.heap σ0 s H locs → lv_has ls 3 [(0, .ref a0), (1, .int v1), (2, .int v2)] → W p l e ({ frames := 0, cells := 0, slots := 0, locals := 0 }) s m ([.ref a0] : List Value).toArray below meth c H locs 0 0 (MQ below (cl_Qi D dA ad0 A σ0 σ0 r) ([.ref a0] : List Value).toArray s 0 0 A) (F0 m 4 ls []) := by
    intro n
    induction n with
    | zero =>
      intro v1 v2 ad H locs ls hF e0 V hl
      exact (dx_lp_0 hF).elim
    | succ n ih4 =>
      intro v1 v2 ad H locs ls hF e0 V hl
      obtain ⟨y4, hF, hz4⟩ := dx_lp_s hF
      replace hF : cl_X0_rowsThere_L4 o0 σ0 v1 v2 = some y4 := hF
      unfold cl_X0_rowsThere_L4 at hF
      refine lv_iload_n hx hb dX0_rowsThere_4 rfl (lv_at hl 2 rfl) ?_
      refine lv_bipush (v := 8) hx hb dX0_rowsThere_5 (by decide) ?_
      refine lv_icmp_ge (tgt := 36) hx hb dX0_rowsThere_7 (by decide) (fun hc => ?_) (fun hc => ?_)
      · replace hF := (if_pos hc).symm.trans hF
        replace hF := dx_ex_k hF hz4
        refine lv_iload_n hx hb dX0_rowsThere_36 rfl (lv_at hl 1 rfl) ?_
        replace hF := Option.some.inj hF
        subst hF
        exact cl_ri S V hr hlocks rfl dX0_rowsThere_37
      · replace hF := (if_neg hc).symm.trans hF
        refine lv_iload_n hx hb dX0_rowsThere_10 rfl (lv_at hl 1 rfl) ?_
        refine lv_aload_n hx hb dX0_rowsThere_11 rfl (lv_at hl 0 rfl) ?_
        obtain ⟨hg, hF⟩ := dx_gd_some hF
        have k1 := of_decide_eq_true hg
        obtain ⟨hg, hF⟩ := dx_gd_some hF
        refine cl_gr S V e0 k1 rfl (by decide) in_X0 0 (by decide) rfl q268 rfl dX0_rowsThere_12 (of_decide_eq_true hg) (fun bb2 ee2 => ?_)
        refine lv_iload_n hx hb dX0_rowsThere_15 rfl (lv_at hl 2 rfl) ?_
        obtain ⟨hg, hF⟩ := dx_gd_some hF
        have k3 := of_decide_eq_true hg
        obtain ⟨hi4, hF⟩ := dx_gd_some hF
        obtain ⟨hg, hF⟩ := dx_gd_some hF
        refine cl_lr 3 24 S V ee2 k3 (by decide) rfl (dx_inb_in hi4) dX0_rowsThere_16 (of_decide_eq_true hg) (fun bb5 ee5 => ?_)
        obtain ⟨hg, hF⟩ := dx_gd_some hF
        have k6 := of_decide_eq_true hg
        by_cases hn7 : (cl_r σ0 (cl_r σ0 (cl_r σ0 o0 0) v2.toNatClampNeg) 0) = 0
        · replace hF := (if_pos hn7).symm.trans hF
          refine cl_gnN S V ee5 k6 rfl (by decide) in_X1 0 (by decide) rfl cn_q136 rfl dX0_rowsThere_17 hn7 ?_
          refine lv_ifnonnullN hx hb dX0_rowsThere_20 ?_
          refine lv_iconst (v := 0) hx hb dX0_rowsThere_23 (by decide) ?_
          refine lv_goto (tgt := 28) hx hb dX0_rowsThere_24 (by decide) ?_
          refine lv_iadd hx hb dX0_rowsThere_28 ?_
          refine lv_istore_n (lv' := [(1, .int (v1 + (0 : Int32))), (0, .ref a0), (2, .int v2)]) hx hb dX0_rowsThere_29 rfl hl (by decide) rfl (fun ls hl => ?_)
          refine lv_iinc (v := (v2 + (1 : Int32))) (lv' := [(2, .int (v2 + (1 : Int32))), (1, .int (v1 + (0 : Int32))), (0, .ref a0)]) hx hb dX0_rowsThere_30 hl (k := 2) rfl rfl (by decide) rfl (fun ls hl => ?_)
          refine lv_goto (tgt := 4) hx hb dX0_rowsThere_33 (by decide) ?_
          replace hF := Option.some.inj hF
          subst hF
          exact ih4 (v1 + (0 : Int32)) (v2 + (1 : Int32)) _ _ _ _ (dx_lk_l hz4) e0 V (lv_sub hl [2, 1, 0] rfl)
        · replace hF := (if_neg hn7).symm.trans hF
          refine cl_grN S V ee5 k6 rfl (by decide) in_X1 0 (by decide) rfl cn_q136 rfl dX0_rowsThere_17 hn7 (fun bb7 ee7 => ?_)
          refine lv_ifnonnull (tgt := 27) hx hb dX0_rowsThere_20 (by decide) ?_
          refine lv_iconst (v := 1) hx hb dX0_rowsThere_27 (by decide) ?_
          refine lv_iadd hx hb dX0_rowsThere_28 ?_
          refine lv_istore_n (lv' := [(1, .int (v1 + (1 : Int32))), (0, .ref a0), (2, .int v2)]) hx hb dX0_rowsThere_29 rfl hl (by decide) rfl (fun ls hl => ?_)
          refine lv_iinc (v := (v2 + (1 : Int32))) (lv' := [(2, .int (v2 + (1 : Int32))), (1, .int (v1 + (1 : Int32))), (0, .ref a0)]) hx hb dX0_rowsThere_30 hl (k := 2) rfl rfl (by decide) rfl (fun ls hl => ?_)
          refine lv_goto (tgt := 4) hx hb dX0_rowsThere_33 (by decide) ?_
          replace hF := Option.some.inj hF
          subst hF
          exact ih4 (v1 + (1 : Int32)) (v2 + (1 : Int32)) _ _ _ _ (dx_lk_l hz4) e0 V (lv_sub hl [2, 1, 0] rfl)
  refine lv_iconst (v := 0) hx hb dX0_rowsThere_0 (by decide) ?_
  refine lv_istore_n (lv' := [(1, .int (0 : Int32)), (0, .ref a0)]) hx hb dX0_rowsThere_1 rfl hl (by decide) rfl (fun ls hl => ?_)
  refine lv_iconst (v := 0) hx hb dX0_rowsThere_2 (by decide) ?_
  refine lv_istore_n (lv' := [(2, .int (0 : Int32)), (1, .int (0 : Int32)), (0, .ref a0)]) hx hb dX0_rowsThere_3 rfl hl (by decide) rfl (fun ls hl => ?_)
  exact hL4  dx_fu (0 : Int32) (0 : Int32) _ _ _ _ hF e0 V (lv_sub hl [2, 1, 0] rfl)
theorem cd_X0_cases : yX0_cases.cls ≠ "java/lang/invoke/MethodHandle" ∧ yX0_cases.cls ≠ "java/lang/invoke/VarHandle" ∧ (parseMethodDescriptor yX0_cases.desc).map (fun d => d.parameters.length) = some 0 := by decide +kernel
set_option maxHeartbeats 4000000 in
set_option maxRecDepth 100000 in
theorem cm_X0_cases (l : Launch) (D : va_G) (dA : Nat → ClassId) (ad0 : Nat → Nat) (A : Nat → Prop) (a0 : Nat) (o0 : Nat)  (σ0 : cl_S) (r : Int32) (e0 : cl_at ad0 σ0 a0 o0) (hF : cl_X0_cases o0 σ0 = some r) : cl_Ci l yX0_cases cX0_cases 3 .int ({ frames := 0, cells := 0, slots := 0, locals := 0 }) D dA ad0 A [.ref a0] σ0 r σ0 := by
  refine cl_in RX0 rfl (by decide) (Nat.le_of_ble_eq_true rfl) ?_
  intro p e s m below meth c ls S hr hlocks hini hv hl
  have hx := S.1
  have hb := S.2.1
  have hown := S.2.2.2.1
  have hts := S.2.2.2.2
  obtain ⟨hN, hK, hP, hD, hA, hZ⟩ := hv
  have V : cl_V D dA (ad0, cl_n σ0) ad0 A s.heap σ0 s s.heap [] := ⟨hN, hK, hP, hD, va_S.rf, hA, hZ, fun _ _ => rfl, Nat.le_refl _⟩
  obtain ⟨ad, V, e0⟩ : ∃ ad, cl_V D dA (ad0, cl_n σ0) ad A s.heap σ0 s s.heap [] ∧ cl_at ad σ0 a0 o0 := ⟨ad0, V, e0⟩
  replace hl : lv_has ls 3 [(0, .ref a0)] := hl
  unfold cl_X0_cases at hF
  have hL4 : ∀  (n : Nat) (v1 : Int32) (v2 : Int32) (ad : Nat → Nat) (H : Heap) (locs : List Loc) (ls : Array Slot), dx_lp (fun x => cl_X0_cases_L4 o0 σ0 x.1 x.2) n (v1, v2) = some r → cl_at ad σ0 a0 o0 → cl_V D dA (ad0, cl_n σ0) ad A s.heap σ0 s H locs → lv_has ls 3 [(0, .ref a0), (1, .int v1), (2, .int v2)] → W p l e ({ frames := 0, cells := 0, slots := 0, locals := 0 }) s m ([.ref a0] : List Value).toArray below meth c H locs 0 0 (MQ below (cl_Qi D dA ad0 A σ0 σ0 r) ([.ref a0] : List Value).toArray s 0 0 A) (F0 m 4 ls []) := by
    intro n
    induction n with
    | zero =>
      intro v1 v2 ad H locs ls hF e0 V hl
      exact (dx_lp_0 hF).elim
    | succ n ih4 =>
      intro v1 v2 ad H locs ls hF e0 V hl
      obtain ⟨y4, hF, hz4⟩ := dx_lp_s hF
      replace hF : cl_X0_cases_L4 o0 σ0 v1 v2 = some y4 := hF
      unfold cl_X0_cases_L4 at hF
      refine lv_iload_n hx hb dX0_cases_4 rfl (lv_at hl 2 rfl) ?_
      refine lv_aload_n hx hb dX0_cases_5 rfl (lv_at hl 0 rfl) ?_
      obtain ⟨hg, hF⟩ := dx_gd_some hF
      have k1 := of_decide_eq_true hg
      obtain ⟨hg, hF⟩ := dx_gd_some hF
      refine cl_gr S V e0 k1 rfl (by decide) in_X0 4 (by decide) rfl q272 rfl dX0_cases_6 (of_decide_eq_true hg) (fun bb2 ee2 => ?_)
      obtain ⟨hg, hF⟩ := dx_gd_some hF
      have k3 := of_decide_eq_true hg
      refine cl_gi S V ee2 k3 rfl (by decide) in_X2 0 (by decide) rfl q152 rfl dX0_cases_9 ?_
      refine lv_icmp_ge (tgt := 41) hx hb dX0_cases_12 (by decide) (fun hc => ?_) (fun hc => ?_)
      · replace hF := (if_pos hc).symm.trans hF
        replace hF := dx_ex_k hF hz4
        refine lv_iload_n hx hb dX0_cases_41 rfl (lv_at hl 1 rfl) ?_
        replace hF := Option.some.inj hF
        subst hF
        exact cl_ri S V hr hlocks rfl dX0_cases_42
      · replace hF := (if_neg hc).symm.trans hF
        refine lv_iload_n hx hb dX0_cases_15 rfl (lv_at hl 1 rfl) ?_
        refine lv_aload_n hx hb dX0_cases_16 rfl (lv_at hl 0 rfl) ?_
        obtain ⟨hg, hF⟩ := dx_gd_some hF
        refine cl_gr S V e0 k1 rfl (by decide) in_X0 4 (by decide) rfl q272 rfl dX0_cases_17 (of_decide_eq_true hg) (fun bb4 ee4 => ?_)
        obtain ⟨hg, hF⟩ := dx_gd_some hF
        refine cl_gr S V ee4 k3 rfl (by decide) in_X2 5 (by decide) rfl q169 rfl dX0_cases_20 (of_decide_eq_true hg) (fun bb5 ee5 => ?_)
        refine lv_iload_n hx hb dX0_cases_23 rfl (lv_at hl 2 rfl) ?_
        obtain ⟨hg, hF⟩ := dx_gd_some hF
        have k6 := of_decide_eq_true hg
        obtain ⟨hg, hF⟩ := dx_gd_some hF
        refine cl_ld S V ee5 k6 (dx_inb_in hg) dX0_cases_24 ?_
        refine lv_if_ge (tgt := 32) hx hb dX0_cases_25 (by decide) (fun hc => ?_) (fun hc => ?_)
        · replace hF := (if_pos hc).symm.trans hF
          refine lv_iconst (v := 1) hx hb dX0_cases_32 (by decide) ?_
          refine lv_iadd hx hb dX0_cases_33 ?_
          refine lv_istore_n (lv' := [(1, .int (v1 + (1 : Int32))), (0, .ref a0), (2, .int v2)]) hx hb dX0_cases_34 rfl hl (by decide) rfl (fun ls hl => ?_)
          refine lv_iinc (v := (v2 + (1 : Int32))) (lv' := [(2, .int (v2 + (1 : Int32))), (1, .int (v1 + (1 : Int32))), (0, .ref a0)]) hx hb dX0_cases_35 hl (k := 2) rfl rfl (by decide) rfl (fun ls hl => ?_)
          refine lv_goto (tgt := 4) hx hb dX0_cases_38 (by decide) ?_
          replace hF := Option.some.inj hF
          subst hF
          exact ih4 (v1 + (1 : Int32)) (v2 + (1 : Int32)) _ _ _ _ (dx_lk_l hz4) e0 V (lv_sub hl [2, 1, 0] rfl)
        · replace hF := (if_neg hc).symm.trans hF
          refine lv_iconst (v := 0) hx hb dX0_cases_28 (by decide) ?_
          refine lv_goto (tgt := 33) hx hb dX0_cases_29 (by decide) ?_
          refine lv_iadd hx hb dX0_cases_33 ?_
          refine lv_istore_n (lv' := [(1, .int (v1 + (0 : Int32))), (0, .ref a0), (2, .int v2)]) hx hb dX0_cases_34 rfl hl (by decide) rfl (fun ls hl => ?_)
          refine lv_iinc (v := (v2 + (1 : Int32))) (lv' := [(2, .int (v2 + (1 : Int32))), (1, .int (v1 + (0 : Int32))), (0, .ref a0)]) hx hb dX0_cases_35 hl (k := 2) rfl rfl (by decide) rfl (fun ls hl => ?_)
          refine lv_goto (tgt := 4) hx hb dX0_cases_38 (by decide) ?_
          replace hF := Option.some.inj hF
          subst hF
          exact ih4 (v1 + (0 : Int32)) (v2 + (1 : Int32)) _ _ _ _ (dx_lk_l hz4) e0 V (lv_sub hl [2, 1, 0] rfl)
  refine lv_iconst (v := 0) hx hb dX0_cases_0 (by decide) ?_
  refine lv_istore_n (lv' := [(1, .int (0 : Int32)), (0, .ref a0)]) hx hb dX0_cases_1 rfl hl (by decide) rfl (fun ls hl => ?_)
  refine lv_iconst (v := 0) hx hb dX0_cases_2 (by decide) ?_
  refine lv_istore_n (lv' := [(2, .int (0 : Int32)), (1, .int (0 : Int32)), (0, .ref a0)]) hx hb dX0_cases_3 rfl hl (by decide) rfl (fun ls hl => ?_)
  exact hL4  dx_fu (0 : Int32) (0 : Int32) _ _ _ _ hF e0 V (lv_sub hl [2, 1, 0] rfl)
theorem cd_X0_count : yX0_count.cls ≠ "java/lang/invoke/MethodHandle" ∧ yX0_count.cls ≠ "java/lang/invoke/VarHandle" ∧ (parseMethodDescriptor yX0_count.desc).map (fun d => d.parameters.length) = some 1 := by decide +kernel
set_option maxHeartbeats 4000000 in
set_option maxRecDepth 100000 in
theorem cm_X0_count (l : Launch) (D : va_G) (dA : Nat → ClassId) (ad0 : Nat → Nat) (A : Nat → Prop) (a0 : Nat) (o0 : Nat) (p0 : Int32) (σ0 : cl_S) (r : Int32) (e0 : cl_at ad0 σ0 a0 o0) (hF : cl_X0_count o0 σ0 p0 = some r) : cl_Ci l yX0_count cX0_count 2 .int ({ frames := 1, cells := 0, slots := 0, locals := 22 }) D dA ad0 A [.ref a0, .int p0] σ0 r σ0 := by
  refine cl_in RX0 rfl (by decide) (Nat.le_of_ble_eq_true rfl) ?_
  intro p e s m below meth c ls S hr hlocks hini hv hl
  have hx := S.1
  have hb := S.2.1
  have hown := S.2.2.2.1
  have hts := S.2.2.2.2
  obtain ⟨hN, hK, hP, hD, hA, hZ⟩ := hv
  have V : cl_V D dA (ad0, cl_n σ0) ad0 A s.heap σ0 s s.heap [] := ⟨hN, hK, hP, hD, va_S.rf, hA, hZ, fun _ _ => rfl, Nat.le_refl _⟩
  obtain ⟨ad, V, e0⟩ : ∃ ad, cl_V D dA (ad0, cl_n σ0) ad A s.heap σ0 s s.heap [] ∧ cl_at ad σ0 a0 o0 := ⟨ad0, V, e0⟩
  replace hl : lv_has ls 2 [(0, .ref a0), (1, .int p0)] := hl
  unfold cl_X0_count at hF
  refine lv_iload_n hx hb dX0_count_0 rfl (lv_at hl 1 rfl) ?_
  by_cases hs0 : p0 = (0 : Int32)
  · replace hF := (if_pos hs0).symm.trans hF
    refine lv_tableIn (tgt := 48) hx hb dX0_count_1 (by rw [hs0]; decide) (by rw [hs0]; decide) (by rw [hs0]; rfl) (by decide) ?_
    refine lv_aload_n hx hb dX0_count_48 rfl (lv_at hl 0 rfl) ?_
    obtain ⟨hg, hF⟩ := dx_gd_some hF
    have k2 := of_decide_eq_true hg
    obtain ⟨r1, h1c, hF⟩ := dx_b1_some hF
    refine cl_ci (va_runV (As := []) S (cm_X0_rowsThere l D dA _ A a0 o0  σ0 _ e0 h1c) (cwV 0 hts (lw_V q1596 q1598 qs34 q77 q1599) rfl rfl rfl ⟨rfl, cd_X0_rowsThere⟩ ⟨Nat.le_of_ble_eq_true rfl, Nat.le_of_ble_eq_true rfl⟩) (cl_preV V [] e0 k2 rfl (by decide)) rfl rfl hl.1 rfl (lv_room (Nat.le_of_ble_eq_true rfl)) dX0_count_49 ⟨Nat.le_of_ble_eq_true rfl, Nat.le_of_ble_eq_true rfl⟩) V (fun ad _ _ hag hle V => ?_)
    replace e0 := e0.mv hag hle
    refine lv_goto (tgt := 118) hx hb dX0_count_52 (by decide) ?_
    replace hF := Option.some.inj hF
    subst hF
    exact cl_ri S V hr hlocks rfl dX0_count_118
  replace hF := (if_neg hs0).symm.trans hF
  by_cases hs1 : p0 = (1 : Int32)
  · replace hF := (if_pos hs1).symm.trans hF
    refine lv_tableIn (tgt := 55) hx hb dX0_count_1 (by rw [hs1]; decide) (by rw [hs1]; decide) (by rw [hs1]; rfl) (by decide) ?_
    refine lv_aload_n hx hb dX0_count_55 rfl (lv_at hl 0 rfl) ?_
    obtain ⟨hg, hF⟩ := dx_gd_some hF
    have k3 := of_decide_eq_true hg
    obtain ⟨hg, hF⟩ := dx_gd_some hF
    refine cl_gr S V e0 k3 rfl (by decide) in_X0 4 (by decide) rfl q272 rfl dX0_count_56 (of_decide_eq_true hg) (fun bb4 ee4 => ?_)
    obtain ⟨hg, hF⟩ := dx_gd_some hF
    have k5 := of_decide_eq_true hg
    refine cl_gi S V ee4 k5 rfl (by decide) in_X2 0 (by decide) rfl q152 rfl dX0_count_59 ?_
    refine lv_goto (tgt := 118) hx hb dX0_count_62 (by decide) ?_
    replace hF := Option.some.inj hF
    subst hF
    exact cl_ri S V hr hlocks rfl dX0_count_118
  replace hF := (if_neg hs1).symm.trans hF
  by_cases hs2 : p0 = (2 : Int32)
  · replace hF := (if_pos hs2).symm.trans hF
    refine lv_tableIn (tgt := 65) hx hb dX0_count_1 (by rw [hs2]; decide) (by rw [hs2]; decide) (by rw [hs2]; rfl) (by decide) ?_
    refine lv_aload_n hx hb dX0_count_65 rfl (lv_at hl 0 rfl) ?_
    obtain ⟨hg, hF⟩ := dx_gd_some hF
    have k6 := of_decide_eq_true hg
    obtain ⟨hg, hF⟩ := dx_gd_some hF
    refine cl_gr S V e0 k6 rfl (by decide) in_X0 4 (by decide) rfl q272 rfl dX0_count_66 (of_decide_eq_true hg) (fun bb7 ee7 => ?_)
    obtain ⟨hg, hF⟩ := dx_gd_some hF
    have k8 := of_decide_eq_true hg
    refine cl_gi S V ee7 k8 rfl (by decide) in_X2 1 (by decide) rfl q157 rfl dX0_count_69 ?_
    refine lv_goto (tgt := 118) hx hb dX0_count_72 (by decide) ?_
    replace hF := Option.some.inj hF
    subst hF
    exact cl_ri S V hr hlocks rfl dX0_count_118
  replace hF := (if_neg hs2).symm.trans hF
  by_cases hs3 : p0 = (3 : Int32)
  · replace hF := (if_pos hs3).symm.trans hF
    refine lv_tableIn (tgt := 75) hx hb dX0_count_1 (by rw [hs3]; decide) (by rw [hs3]; decide) (by rw [hs3]; rfl) (by decide) ?_
    refine lv_aload_n hx hb dX0_count_75 rfl (lv_at hl 0 rfl) ?_
    obtain ⟨hg, hF⟩ := dx_gd_some hF
    have k10 := of_decide_eq_true hg
    obtain ⟨r9, h9c, hF⟩ := dx_b1_some hF
    refine cl_ci (va_runV (As := []) S (cm_X0_cases l D dA _ A a0 o0  σ0 _ e0 h9c) (cwV 0 hts (lw_V q1600 q1602 qs35 q77 q1603) rfl rfl rfl ⟨rfl, cd_X0_cases⟩ ⟨Nat.le_of_ble_eq_true rfl, Nat.le_of_ble_eq_true rfl⟩) (cl_preV V [] e0 k10 rfl (by decide)) rfl rfl hl.1 rfl (lv_room (Nat.le_of_ble_eq_true rfl)) dX0_count_76 ⟨Nat.le_of_ble_eq_true rfl, Nat.le_of_ble_eq_true rfl⟩) V (fun ad _ _ hag hle V => ?_)
    replace e0 := e0.mv hag hle
    refine lv_goto (tgt := 118) hx hb dX0_count_79 (by decide) ?_
    replace hF := Option.some.inj hF
    subst hF
    exact cl_ri S V hr hlocks rfl dX0_count_118
  replace hF := (if_neg hs3).symm.trans hF
  by_cases hs4 : p0 = (4 : Int32)
  · replace hF := (if_pos hs4).symm.trans hF
    refine lv_tableIn (tgt := 82) hx hb dX0_count_1 (by rw [hs4]; decide) (by rw [hs4]; decide) (by rw [hs4]; rfl) (by decide) ?_
    refine lv_aload_n hx hb dX0_count_82 rfl (lv_at hl 0 rfl) ?_
    obtain ⟨hg, hF⟩ := dx_gd_some hF
    have k11 := of_decide_eq_true hg
    obtain ⟨hg, hF⟩ := dx_gd_some hF
    refine cl_gr S V e0 k11 rfl (by decide) in_X0 4 (by decide) rfl q272 rfl dX0_count_83 (of_decide_eq_true hg) (fun bb12 ee12 => ?_)
    obtain ⟨hg, hF⟩ := dx_gd_some hF
    have k13 := of_decide_eq_true hg
    refine cl_gi S V ee12 k13 rfl (by decide) in_X2 2 (by decide) rfl q160 rfl dX0_count_86 ?_
    refine lv_goto (tgt := 118) hx hb dX0_count_89 (by decide) ?_
    replace hF := Option.some.inj hF
    subst hF
    exact cl_ri S V hr hlocks rfl dX0_count_118
  replace hF := (if_neg hs4).symm.trans hF
  by_cases hs5 : p0 = (5 : Int32)
  · replace hF := (if_pos hs5).symm.trans hF
    refine lv_tableIn (tgt := 92) hx hb dX0_count_1 (by rw [hs5]; decide) (by rw [hs5]; decide) (by rw [hs5]; rfl) (by decide) ?_
    refine lv_aload_n hx hb dX0_count_92 rfl (lv_at hl 0 rfl) ?_
    obtain ⟨hg, hF⟩ := dx_gd_some hF
    have k14 := of_decide_eq_true hg
    obtain ⟨hg, hF⟩ := dx_gd_some hF
    refine cl_gr S V e0 k14 rfl (by decide) in_X0 4 (by decide) rfl q272 rfl dX0_count_93 (of_decide_eq_true hg) (fun bb15 ee15 => ?_)
    obtain ⟨hg, hF⟩ := dx_gd_some hF
    have k16 := of_decide_eq_true hg
    refine cl_gi S V ee15 k16 rfl (by decide) in_X2 3 (by decide) rfl q163 rfl dX0_count_96 ?_
    refine lv_goto (tgt := 118) hx hb dX0_count_99 (by decide) ?_
    replace hF := Option.some.inj hF
    subst hF
    exact cl_ri S V hr hlocks rfl dX0_count_118
  replace hF := (if_neg hs5).symm.trans hF
  by_cases hs6 : p0 = (6 : Int32)
  · replace hF := (if_pos hs6).symm.trans hF
    refine lv_tableIn (tgt := 102) hx hb dX0_count_1 (by rw [hs6]; decide) (by rw [hs6]; decide) (by rw [hs6]; rfl) (by decide) ?_
    refine lv_aload_n hx hb dX0_count_102 rfl (lv_at hl 0 rfl) ?_
    obtain ⟨hg, hF⟩ := dx_gd_some hF
    have k17 := of_decide_eq_true hg
    refine cl_gi S V e0 k17 rfl (by decide) in_X0 9 (by decide) rfl q277 rfl dX0_count_103 ?_
    refine lv_goto (tgt := 118) hx hb dX0_count_106 (by decide) ?_
    replace hF := Option.some.inj hF
    subst hF
    exact cl_ri S V hr hlocks rfl dX0_count_118
  replace hF := (if_neg hs6).symm.trans hF
  by_cases hs7 : p0 = (7 : Int32)
  · replace hF := (if_pos hs7).symm.trans hF
    refine lv_tableIn (tgt := 109) hx hb dX0_count_1 (by rw [hs7]; decide) (by rw [hs7]; decide) (by rw [hs7]; rfl) (by decide) ?_
    refine lv_aload_n hx hb dX0_count_109 rfl (lv_at hl 0 rfl) ?_
    obtain ⟨hg, hF⟩ := dx_gd_some hF
    have k18 := of_decide_eq_true hg
    refine cl_gi S V e0 k18 rfl (by decide) in_X0 2 (by decide) rfl q270 rfl dX0_count_110 ?_
    refine lv_goto (tgt := 118) hx hb dX0_count_113 (by decide) ?_
    replace hF := Option.some.inj hF
    subst hF
    exact cl_ri S V hr hlocks rfl dX0_count_118
  replace hF := (if_neg hs7).symm.trans hF
  refine lv_tableOut (tgt := 116) hx hb dX0_count_1 (by have nhs0 := lv_neT hs0 (show ((0 : Int32)).toInt = 0 from rfl); have nhs1 := lv_neT hs1 (show ((1 : Int32)).toInt = 1 from rfl); have nhs2 := lv_neT hs2 (show ((2 : Int32)).toInt = 2 from rfl); have nhs3 := lv_neT hs3 (show ((3 : Int32)).toInt = 3 from rfl); have nhs4 := lv_neT hs4 (show ((4 : Int32)).toInt = 4 from rfl); have nhs5 := lv_neT hs5 (show ((5 : Int32)).toInt = 5 from rfl); have nhs6 := lv_neT hs6 (show ((6 : Int32)).toInt = 6 from rfl); have nhs7 := lv_neT hs7 (show ((7 : Int32)).toInt = 7 from rfl); omega) (by decide) ?_
  refine lv_ldc hx hb hown (hts _ q406) dX0_count_116 ?_
  replace hF := Option.some.inj hF
  subst hF
  exact cl_ri S V hr hlocks rfl dX0_count_118
theorem cd_X0_status : yX0_status.cls ≠ "java/lang/invoke/MethodHandle" ∧ yX0_status.cls ≠ "java/lang/invoke/VarHandle" ∧ (parseMethodDescriptor yX0_status.desc).map (fun d => d.parameters.length) = some 0 := by decide +kernel
set_option maxHeartbeats 4000000 in
set_option maxRecDepth 100000 in
theorem cm_X0_status (l : Launch) (D : va_G) (dA : Nat → ClassId) (ad0 : Nat → Nat) (A : Nat → Prop) (a0 : Nat) (o0 : Nat)  (σ0 : cl_S) (r : Int32) (e0 : cl_at ad0 σ0 a0 o0) (hF : cl_X0_status o0 σ0 = some r) : cl_Ci l yX0_status cX0_status 1 .int ({ frames := 0, cells := 0, slots := 0, locals := 0 }) D dA ad0 A [.ref a0] σ0 r σ0 := by
  refine cl_in RX0 rfl (by decide) (Nat.le_of_ble_eq_true rfl) ?_
  intro p e s m below meth c ls S hr hlocks hini hv hl
  have hx := S.1
  have hb := S.2.1
  have hown := S.2.2.2.1
  have hts := S.2.2.2.2
  obtain ⟨hN, hK, hP, hD, hA, hZ⟩ := hv
  have V : cl_V D dA (ad0, cl_n σ0) ad0 A s.heap σ0 s s.heap [] := ⟨hN, hK, hP, hD, va_S.rf, hA, hZ, fun _ _ => rfl, Nat.le_refl _⟩
  obtain ⟨ad, V, e0⟩ : ∃ ad, cl_V D dA (ad0, cl_n σ0) ad A s.heap σ0 s s.heap [] ∧ cl_at ad σ0 a0 o0 := ⟨ad0, V, e0⟩
  replace hl : lv_has ls 1 [(0, .ref a0)] := hl
  unfold cl_X0_status at hF
  refine lv_aload_n hx hb dX0_status_0 rfl (lv_at hl 0 rfl) ?_
  obtain ⟨hg, hF⟩ := dx_gd_some hF
  have k1 := of_decide_eq_true hg
  refine cl_gi S V e0 k1 rfl (by decide) in_X0 12 (by decide) rfl q280 rfl dX0_status_1 ?_
  replace hF := Option.some.inj hF
  subst hF
  exact cl_ri S V hr hlocks rfl dX0_status_4
theorem cd_X5_begins : yX5_begins.cls ≠ "java/lang/invoke/MethodHandle" ∧ yX5_begins.cls ≠ "java/lang/invoke/VarHandle" ∧ (parseMethodDescriptor yX5_begins.desc).map (fun d => d.parameters.length) = some 1 := by decide +kernel
set_option maxHeartbeats 4000000 in
set_option maxRecDepth 100000 in
theorem cm_X5_begins (l : Launch) (D : va_G) (dA : Nat → ClassId) (ad0 : Nat → Nat) (A : Nat → Prop) (a0 : Nat) (o0 : Nat) (p0 : Int32) (σ0 : cl_S) (σ' : cl_S) (e0 : cl_at ad0 σ0 a0 o0) (hF : cl_X5_begins o0 σ0 p0 = some σ') : cl_Cv l yX5_begins cX5_begins 2 ({ frames := 0, cells := 0, slots := 0, locals := 0 }) D dA ad0 A [.ref a0, .int p0] σ0 σ' := by
  refine cl_in RX5 rfl (by decide) (Nat.le_of_ble_eq_true rfl) ?_
  intro p e s m below meth c ls S hr hlocks hini hv hl
  have hx := S.1
  have hb := S.2.1
  have hown := S.2.2.2.1
  have hts := S.2.2.2.2
  obtain ⟨hN, hK, hP, hD, hA, hZ⟩ := hv
  have V : cl_V D dA (ad0, cl_n σ0) ad0 A s.heap σ0 s s.heap [] := ⟨hN, hK, hP, hD, va_S.rf, hA, hZ, fun _ _ => rfl, Nat.le_refl _⟩
  obtain ⟨ad, V, e0⟩ : ∃ ad, cl_V D dA (ad0, cl_n σ0) ad A s.heap σ0 s s.heap [] ∧ cl_at ad σ0 a0 o0 := ⟨ad0, V, e0⟩
  replace hl : lv_has ls 2 [(0, .ref a0), (1, .int p0)] := hl
  unfold cl_X5_begins at hF
  refine lv_aload_n hx hb dX5_begins_0 rfl (lv_at hl 0 rfl) ?_
  obtain ⟨hg, hF⟩ := dx_gd_some hF
  have k1 := of_decide_eq_true hg
  refine cl_gi S V e0 k1 rfl (by decide) in_X5 1 (by decide) rfl q261 rfl dX5_begins_1 ?_
  refine lv_bipush (v := 16) hx hb dX5_begins_4 (by decide) ?_
  refine lv_icmp_ge (tgt := 26) hx hb dX5_begins_6 (by decide) (fun hc => ?_) (fun hc => ?_)
  · replace hF := (if_pos hc).symm.trans hF
    replace hF := Option.some.inj hF
    subst hF
    exact cl_rv S V hr hlocks dX5_begins_26
  · replace hF := (if_neg hc).symm.trans hF
    refine lv_aload_n hx hb dX5_begins_9 rfl (lv_at hl 0 rfl) ?_
    obtain ⟨hg, hF⟩ := dx_gd_some hF
    refine cl_gr S V e0 k1 rfl (by decide) in_X5 0 (by decide) rfl q259 rfl dX5_begins_10 (of_decide_eq_true hg) (fun bb2 ee2 => ?_)
    refine lv_aload_n hx hb dX5_begins_13 rfl (lv_at hl 0 rfl) ?_
    refine lv_dup hx hb dX5_begins_14 rfl ?_
    refine cl_gi S V e0 k1 rfl (by decide) in_X5 1 (by decide) rfl q261 rfl dX5_begins_15 ?_
    refine lv_dup_x1 hx hb dX5_begins_18 rfl rfl ?_
    refine lv_iconst (v := 1) hx hb dX5_begins_19 (by decide) ?_
    refine lv_iadd hx hb dX5_begins_20 ?_
    refine cl_pi S V e0 k1 rfl (by decide) in_X5 tyX5 tyX5_ok nmX5 1 (by decide) rfl q261 rfl rfl rfl dX5_begins_21 (fun _ _ V => ?_)
    obtain ⟨σ3, eσ3⟩ : ∃ x, x = (cl_wi σ0 o0 1 ((cl_i σ0 o0 1) + (1 : Int32))) := ⟨_, rfl⟩
    rw [← eσ3] at V
    replace hF := dx_let_e eσ3 hF
    replace ee2 : cl_at ad σ3 bb2 (cl_r σ0 o0 0) := by rw [eσ3]; exact ee2
    replace e0 : cl_at ad σ3 a0 o0 := by rw [eσ3]; exact e0
    replace k1 : cl_k σ3 o0 = 5 := by rw [eσ3]; exact k1
    refine lv_iload_n hx hb dX5_begins_24 rfl (lv_at hl 1 rfl) ?_
    obtain ⟨hg, hF⟩ := dx_gd_some hF
    have k4 := of_decide_eq_true hg
    obtain ⟨hg, hF⟩ := dx_gd_some hF
    refine cl_st S V ee2 k4 (dx_inb_in hg) dX5_begins_25 (fun _ _ V => ?_)
    obtain ⟨σ5, eσ5⟩ : ∃ x, x = (cl_wi σ3 (cl_r σ0 o0 0) (cl_i σ0 o0 1).toNatClampNeg p0) := ⟨_, rfl⟩
    rw [← eσ5] at V
    replace hF := dx_let_e eσ5 hF
    replace e0 : cl_at ad σ5 a0 o0 := by rw [eσ5]; exact e0
    replace k1 : cl_k σ5 o0 = 5 := by rw [eσ5]; exact k1
    replace k4 : cl_k σ5 (cl_r σ0 o0 0) = 20 := by rw [eσ5]; exact k4
    replace hF := Option.some.inj hF
    subst hF
    exact cl_rv S V hr hlocks dX5_begins_26
theorem cd_X18_ill : yX18_ill.cls ≠ "java/lang/invoke/MethodHandle" ∧ yX18_ill.cls ≠ "java/lang/invoke/VarHandle" ∧ (parseMethodDescriptor yX18_ill.desc).map (fun d => d.parameters.length) = some 0 := by decide +kernel
set_option maxHeartbeats 4000000 in
set_option maxRecDepth 100000 in
theorem cm_X18_ill (l : Launch) (D : va_G) (dA : Nat → ClassId) (ad0 : Nat → Nat) (A : Nat → Prop) (a0 : Nat) (o0 : Nat)  (σ0 : cl_S) (r : Int32) (e0 : cl_at ad0 σ0 a0 o0) (hF : cl_X18_ill o0 σ0 = some r) : cl_Ci l yX18_ill cX18_ill 1 .int ({ frames := 0, cells := 0, slots := 0, locals := 0 }) D dA ad0 A [.ref a0] σ0 r σ0 := by
  refine cl_in RX18 rfl (by decide) (Nat.le_of_ble_eq_true rfl) ?_
  intro p e s m below meth c ls S hr hlocks hini hv hl
  have hx := S.1
  have hb := S.2.1
  have hown := S.2.2.2.1
  have hts := S.2.2.2.2
  obtain ⟨hN, hK, hP, hD, hA, hZ⟩ := hv
  have V : cl_V D dA (ad0, cl_n σ0) ad0 A s.heap σ0 s s.heap [] := ⟨hN, hK, hP, hD, va_S.rf, hA, hZ, fun _ _ => rfl, Nat.le_refl _⟩
  obtain ⟨ad, V, e0⟩ : ∃ ad, cl_V D dA (ad0, cl_n σ0) ad A s.heap σ0 s s.heap [] ∧ cl_at ad σ0 a0 o0 := ⟨ad0, V, e0⟩
  replace hl : lv_has ls 1 [(0, .ref a0)] := hl
  unfold cl_X18_ill at hF
  refine lv_aload_n hx hb dX18_ill_0 rfl (lv_at hl 0 rfl) ?_
  obtain ⟨hg, hF⟩ := dx_gd_some hF
  have k1 := of_decide_eq_true hg
  refine cl_gi S V e0 k1 rfl (by decide) in_X18 1 (by decide) rfl q1491 rfl dX18_ill_1 ?_
  replace hF := Option.some.inj hF
  subst hF
  exact cl_ri S V hr hlocks rfl dX18_ill_4
theorem cd_X18_contacts : yX18_contacts.cls ≠ "java/lang/invoke/MethodHandle" ∧ yX18_contacts.cls ≠ "java/lang/invoke/VarHandle" ∧ (parseMethodDescriptor yX18_contacts.desc).map (fun d => d.parameters.length) = some 0 := by decide +kernel
set_option maxHeartbeats 4000000 in
set_option maxRecDepth 100000 in
theorem cm_X18_contacts (l : Launch) (D : va_G) (dA : Nat → ClassId) (ad0 : Nat → Nat) (A : Nat → Prop) (a0 : Nat) (o0 : Nat)  (σ0 : cl_S) (r : Int32) (e0 : cl_at ad0 σ0 a0 o0) (hF : cl_X18_contacts o0 σ0 = some r) : cl_Ci l yX18_contacts cX18_contacts 1 .int ({ frames := 0, cells := 0, slots := 0, locals := 0 }) D dA ad0 A [.ref a0] σ0 r σ0 := by
  refine cl_in RX18 rfl (by decide) (Nat.le_of_ble_eq_true rfl) ?_
  intro p e s m below meth c ls S hr hlocks hini hv hl
  have hx := S.1
  have hb := S.2.1
  have hown := S.2.2.2.1
  have hts := S.2.2.2.2
  obtain ⟨hN, hK, hP, hD, hA, hZ⟩ := hv
  have V : cl_V D dA (ad0, cl_n σ0) ad0 A s.heap σ0 s s.heap [] := ⟨hN, hK, hP, hD, va_S.rf, hA, hZ, fun _ _ => rfl, Nat.le_refl _⟩
  obtain ⟨ad, V, e0⟩ : ∃ ad, cl_V D dA (ad0, cl_n σ0) ad A s.heap σ0 s s.heap [] ∧ cl_at ad σ0 a0 o0 := ⟨ad0, V, e0⟩
  replace hl : lv_has ls 1 [(0, .ref a0)] := hl
  unfold cl_X18_contacts at hF
  refine lv_aload_n hx hb dX18_contacts_0 rfl (lv_at hl 0 rfl) ?_
  obtain ⟨hg, hF⟩ := dx_gd_some hF
  have k1 := of_decide_eq_true hg
  refine cl_gi S V e0 k1 rfl (by decide) in_X18 0 (by decide) rfl q1490 rfl dX18_contacts_1 ?_
  replace hF := Option.some.inj hF
  subst hF
  exact cl_ri S V hr hlocks rfl dX18_contacts_4
