/-! the class side read back and walked (printed by gen/clmain.py) -/
theorem cd_J9_append_3 : yJ9_append_3.cls ≠ "java/lang/invoke/MethodHandle" ∧ yJ9_append_3.cls ≠ "java/lang/invoke/VarHandle" ∧ (parseMethodDescriptor yJ9_append_3.desc).map (fun d => d.parameters.length) = some 1 := by decide +kernel
set_option maxHeartbeats 4000000 in
set_option maxRecDepth 100000 in
theorem cm_J9_append_3 (l : Launch) (D : va_G) (dA : Nat → ClassId) (ad0 : Nat → Nat) (A : Nat → Prop) (a0 : Nat) (o0 : Nat) (p0 : Int32) (σ0 : cl_S) (r : Nat) (σ' : cl_S) (e0 : cl_at ad0 σ0 a0 o0) (hF : cl_J9_append_3 o0 σ0 p0 = some (r, σ')) : cl_Cr l yJ9_append_3 cJ9_append_3 4 (.object "java/lang/AbstractStringBuilder") ({ frames := 4, cells := 1, slots := 160, locals := 91 }) D dA ad0 A [.ref a0, .int p0] σ0 r σ' := by
  refine cl_in RJ9 rfl (by decide) (Nat.le_of_ble_eq_true rfl) ?_
  intro p e s m below meth c ls S hr hlocks hini hv hl
  have hx := S.1
  have hb := S.2.1
  have hown := S.2.2.2.1
  have hts := S.2.2.2.2
  obtain ⟨hN, hK, hP, hD, hA, hZ⟩ := hv
  have V : cl_V D dA (ad0, cl_n σ0) ad0 A s.heap σ0 s s.heap [] := ⟨hN, hK, hP, hD, va_S.rf, hA, hZ, fun _ _ => rfl, Nat.le_refl _⟩
  obtain ⟨ad, V, e0⟩ : ∃ ad, cl_V D dA (ad0, cl_n σ0) ad A s.heap σ0 s s.heap [] ∧ cl_at ad σ0 a0 o0 := ⟨ad0, V, e0⟩
  replace hl : lv_has ls 4 [(0, .ref a0), (1, .int p0)] := hl
  unfold cl_J9_append_3 at hF
  refine lv_aload_n hx hb dJ9_append_3_0 rfl (lv_at hl 0 rfl) ?_
  obtain ⟨hg, hF⟩ := dx_gd_some hF
  have k1 := of_decide_eq_true hg
  refine cl_gi S V e0 k1 rfl (by decide) in_J10 3 (by decide) rfl q643 rfl dJ9_append_3_1 ?_
  refine lv_istore_n (lv' := [(2, .int (cl_i σ0 o0 3)), (0, .ref a0), (1, .int p0)]) hx hb dJ9_append_3_4 rfl hl (by decide) rfl (fun ls hl => ?_)
  refine lv_iload_n hx hb dJ9_append_3_5 rfl (lv_at hl 0 rfl) ?_
  refine lv_iload_n hx hb dJ9_append_3_6 rfl (lv_at hl 2 rfl) ?_
  obtain ⟨r2, h2c, hF⟩ := dx_b1_some hF
  refine dx_cPi S [.int p0] (cm_J17_stringSize l p0 _ h2c) (va_cwS 1 hts (lw_S q1250 q1251 q114 q1252) rfl rfl rfl cd_J17_stringSize ⟨Nat.le_of_ble_eq_true rfl, Nat.le_of_ble_eq_true rfl⟩) rfl rfl hl.1 (Nat.le_of_ble_eq_true rfl) dJ9_append_3_7 ⟨Nat.le_of_ble_eq_true rfl, Nat.le_of_ble_eq_true rfl⟩ ?_
  refine lv_iadd hx hb dJ9_append_3_10 ?_
  refine lv_istore_n (lv' := [(3, .int ((cl_i σ0 o0 3) + r2)), (2, .int (cl_i σ0 o0 3)), (0, .ref a0), (1, .int p0)]) hx hb dJ9_append_3_11 rfl hl (by decide) rfl (fun ls hl => ?_)
  refine lv_aload_n hx hb dJ9_append_3_12 rfl (lv_at hl 2 rfl) ?_
  refine lv_iload_n hx hb dJ9_append_3_13 rfl (lv_at hl 0 rfl) ?_
  obtain ⟨σ3, h3c, hF⟩ := dx_b1_some hF
  refine cl_cv (va_runU (As := [.int ((cl_i σ0 o0 3) + r2)]) S (cm_J9_ensureCapacityInternal l D dA _ A a0 o0 ((cl_i σ0 o0 3) + r2) σ0 _ e0 h3c) (cl_cwQ (owner := "java/lang/AbstractStringBuilder") (k := 1) hts q665 q2056 q667 q668 (va_Nw.use rfl (V.1.2.2.2.2.2.2.1.1 _ dw_8)) q667 q96 q668 (by decide) (by decide +kernel) ⟨Nat.le_of_ble_eq_true rfl, Nat.le_of_ble_eq_true rfl⟩) (cl_preV V [.int ((cl_i σ0 o0 3) + r2)] e0 k1 rfl (by decide)) rfl rfl hl.1 rfl (lv_room (Nat.le_of_ble_eq_true rfl)) dJ9_append_3_14 ⟨Nat.le_of_ble_eq_true rfl, Nat.le_of_ble_eq_true rfl⟩) V (fun ad _ _ hag hle V => ?_)
  replace e0 := e0.mv hag hle
  refine lv_aload_n hx hb dJ9_append_3_17 rfl (lv_at hl 2 rfl) ?_
  obtain ⟨hg, hF⟩ := dx_gd_some hF
  have k5 := of_decide_eq_true hg
  obtain ⟨r4, h4c, hF⟩ := dx_b1_some hF
  refine cl_ci (va_runU (As := []) S (cm_J9_isLatin1 l D dA _ A a0 o0  σ3 _ e0 h4c) (cl_cwQ (owner := "java/lang/AbstractStringBuilder") (k := 0) hts q698 q700 q699 q702 (hts _ q701) q699 q96 q702 (by decide) (by decide +kernel) ⟨Nat.le_of_ble_eq_true rfl, Nat.le_of_ble_eq_true rfl⟩) (cl_preV V [] e0 k5 rfl (by decide)) rfl rfl hl.1 rfl (lv_room (Nat.le_of_ble_eq_true rfl)) dJ9_append_3_18 ⟨Nat.le_of_ble_eq_true rfl, Nat.le_of_ble_eq_true rfl⟩) V (fun ad _ _ hag hle V => ?_)
  replace e0 := e0.mv hag hle
  refine lv_if_eq (tgt := 37) hx hb dJ9_append_3_21 (by decide) (fun hc => ?_) (fun hc => ?_)
  · replace hF := dx_ib_f (dx_bI_0 hc) hF
    cases hF
  · replace hF := dx_ib_t (dx_bI_n hc) hF
    refine lv_iload_n hx hb dJ9_append_3_24 rfl (lv_at hl 3 rfl) ?_
    refine lv_iload_n hx hb dJ9_append_3_25 rfl (lv_at hl 0 rfl) ?_
    refine lv_aload_n hx hb dJ9_append_3_26 rfl (lv_at hl 2 rfl) ?_
    obtain ⟨hg, hF⟩ := dx_gd_some hF
    refine cl_gr S V e0 k5 rfl (by decide) in_J10 0 (by decide) rfl q640 rfl dJ9_append_3_27 (of_decide_eq_true hg) (fun bb6 ee6 => ?_)
    obtain ⟨r7, σ7, h7c, hF⟩ := dx_b2_some hF
    refine cl_ci (va_runS (As := [.int p0, .int ((cl_i σ0 o0 3) + r2), .ref bb6]) S (cm_J17_getChars l D dA _ A bb6 (cl_r σ3 o0 0) p0 ((cl_i σ0 o0 3) + r2) σ3 _ _ ee6 h7c) (va_cwS 3 hts (lw_S q1253 q1254 q114 q1255) rfl rfl rfl cd_J17_getChars ⟨Nat.le_of_ble_eq_true rfl, Nat.le_of_ble_eq_true rfl⟩) (cl_preS V [.int p0, .int ((cl_i σ0 o0 3) + r2), .ref bb6]) rfl rfl hl.1 rfl (lv_room (Nat.le_of_ble_eq_true rfl)) dJ9_append_3_30 ⟨Nat.le_of_ble_eq_true rfl, Nat.le_of_ble_eq_true rfl⟩) V (fun ad _ _ hag hle V => ?_)
    replace e0 := e0.mv hag hle
    refine lv_pop hx hb dJ9_append_3_33 rfl ?_
    refine lv_goto (tgt := 48) hx hb dJ9_append_3_34 (by decide) ?_
    refine lv_aload_n hx hb dJ9_append_3_48 rfl (lv_at hl 2 rfl) ?_
    refine lv_iload_n hx hb dJ9_append_3_49 rfl (lv_at hl 0 rfl) ?_
    obtain ⟨hg, hF⟩ := dx_gd_some hF
    have k8 := of_decide_eq_true hg
    refine cl_pi S V e0 k8 rfl (by decide) in_J10 tyJ10 tyJ10_ok nmJ10 3 (by decide) rfl q643 rfl rfl rfl dJ9_append_3_50 (fun _ _ V => ?_)
    refine lv_aload_n hx hb dJ9_append_3_53 rfl (lv_at hl 2 rfl) ?_
    refine W.widen (k := 1) (n := 160) (by first | omega | (dsimp only; omega)) (by first | omega | (dsimp only; omega)) ?_
    obtain ⟨hF1, hF2⟩ := dx_r2 hF
    subst hF1
    subst hF2
    exact cl_rr S V hr (Or.inl ⟨_, rfl⟩) hlocks e0 dJ9_append_3_54
theorem cd_J10_append_3 : yJ10_append_3.cls ≠ "java/lang/invoke/MethodHandle" ∧ yJ10_append_3.cls ≠ "java/lang/invoke/VarHandle" ∧ (parseMethodDescriptor yJ10_append_3.desc).map (fun d => d.parameters.length) = some 1 := by decide +kernel
set_option maxHeartbeats 4000000 in
set_option maxRecDepth 100000 in
theorem cm_J10_append_3 (l : Launch) (D : va_G) (dA : Nat → ClassId) (ad0 : Nat → Nat) (A : Nat → Prop) (a0 : Nat) (o0 : Nat) (p0 : Int32) (σ0 : cl_S) (r : Nat) (σ' : cl_S) (e0 : cl_at ad0 σ0 a0 o0) (hF : cl_J10_append_3 o0 σ0 p0 = some (r, σ')) : cl_Cr l yJ10_append_3 cJ10_append_3 2 (.object "java/lang/StringBuilder") ({ frames := 5, cells := 1, slots := 160, locals := 114 }) D dA ad0 A [.ref a0, .int p0] σ0 r σ' := by
  refine cl_in RJ10 rfl (by decide) (Nat.le_of_ble_eq_true rfl) ?_
  intro p e s m below meth c ls S hr hlocks hini hv hl
  have hx := S.1
  have hb := S.2.1
  have hown := S.2.2.2.1
  have hts := S.2.2.2.2
  obtain ⟨hN, hK, hP, hD, hA, hZ⟩ := hv
  have V : cl_V D dA (ad0, cl_n σ0) ad0 A s.heap σ0 s s.heap [] := ⟨hN, hK, hP, hD, va_S.rf, hA, hZ, fun _ _ => rfl, Nat.le_refl _⟩
  obtain ⟨ad, V, e0⟩ : ∃ ad, cl_V D dA (ad0, cl_n σ0) ad A s.heap σ0 s s.heap [] ∧ cl_at ad σ0 a0 o0 := ⟨ad0, V, e0⟩
  replace hl : lv_has ls 2 [(0, .ref a0), (1, .int p0)] := hl
  unfold cl_J10_append_3 at hF
  refine lv_aload_n hx hb dJ10_append_3_0 rfl (lv_at hl 0 rfl) ?_
  refine lv_iload_n hx hb dJ10_append_3_1 rfl (lv_at hl 1 rfl) ?_
  obtain ⟨hg, hF⟩ := dx_gd_some hF
  have k2 := of_decide_eq_true hg
  obtain ⟨r1, σ1, h1c, hF⟩ := dx_b2_some hF
  obtain ⟨hg, hF⟩ := dx_gd_some hF
  refine cl_cr (cl_runSU (n := 1) (V.2.1.1 17 _ rfl).2 (As := [.int p0]) S (cm_J9_append_3 l D dA _ A a0 o0 p0 σ0 _ _ e0 h1c) rfl rfl q1247 q2062 q652 (Or.inl rfl) q1248 q96 q1249 rfl (by decide +kernel) ⟨Nat.le_of_ble_eq_true rfl, Nat.le_of_ble_eq_true rfl⟩ (cl_preV V [.int p0] e0 k2 rfl (by decide)) rfl rfl hl.1 rfl (lv_room (Nat.le_of_ble_eq_true rfl)) dJ10_append_3_2 ⟨Nat.le_of_ble_eq_true rfl, Nat.le_of_ble_eq_true rfl⟩) V (of_decide_eq_true hg) (fun bb1 ad _ _ hag hle ee1 V => ?_)
  replace e0 := e0.mv hag hle
  refine lv_pop hx hb dJ10_append_3_5 rfl ?_
  refine lv_aload_n hx hb dJ10_append_3_6 rfl (lv_at hl 0 rfl) ?_
  refine W.widen (k := 1) (n := 160) (by first | omega | (dsimp only; omega)) (by first | omega | (dsimp only; omega)) ?_
  obtain ⟨hF1, hF2⟩ := dx_r2 hF
  subst hF1
  subst hF2
  exact cl_rr S V hr (Or.inl ⟨_, rfl⟩) hlocks e0 dJ10_append_3_7
theorem cd_J10_append_4 : yJ10_append_4.cls ≠ "java/lang/invoke/MethodHandle" ∧ yJ10_append_4.cls ≠ "java/lang/invoke/VarHandle" ∧ (parseMethodDescriptor yJ10_append_4.desc).map (fun d => d.parameters.length) = some 1 := by decide +kernel
set_option maxHeartbeats 4000000 in
set_option maxRecDepth 100000 in
theorem cm_J10_append_4 (l : Launch) (D : va_G) (dA : Nat → ClassId) (ad0 : Nat → Nat) (A : Nat → Prop) (a0 : Nat) (a1 : Nat) (o0 : Nat) (o1 : Nat)  (σ0 : cl_S) (r : Nat) (σ' : cl_S) (e0 : cl_at ad0 σ0 a0 o0) (e1 : cl_at ad0 σ0 a1 o1) (hF : cl_J10_append_4 o0 o1 σ0 = some (r, σ')) : cl_Cr l yJ10_append_4 cJ10_append_4 2 (.object "java/lang/AbstractStringBuilder") ({ frames := 6, cells := 1, slots := 160, locals := 134 }) D dA ad0 A [.ref a0, .ref a1] σ0 r σ' := by
  refine cl_in RJ10 rfl (by decide) (Nat.le_of_ble_eq_true rfl) ?_
  intro p e s m below meth c ls S hr hlocks hini hv hl
  have hx := S.1
  have hb := S.2.1
  have hown := S.2.2.2.1
  have hts := S.2.2.2.2
  obtain ⟨hN, hK, hP, hD, hA, hZ⟩ := hv
  have V : cl_V D dA (ad0, cl_n σ0) ad0 A s.heap σ0 s s.heap [] := ⟨hN, hK, hP, hD, va_S.rf, hA, hZ, fun _ _ => rfl, Nat.le_refl _⟩
  obtain ⟨ad, V, e0, e1⟩ : ∃ ad, cl_V D dA (ad0, cl_n σ0) ad A s.heap σ0 s s.heap [] ∧ cl_at ad σ0 a0 o0 ∧ cl_at ad σ0 a1 o1 := ⟨ad0, V, e0, e1⟩
  replace hl : lv_has ls 2 [(0, .ref a0), (1, .ref a1)] := hl
  unfold cl_J10_append_4 at hF
  refine lv_aload_n hx hb dJ10_append_4_0 rfl (lv_at hl 0 rfl) ?_
  refine lv_aload_n hx hb dJ10_append_4_1 rfl (lv_at hl 1 rfl) ?_
  obtain ⟨hg, hF⟩ := dx_gd_some hF
  have k2 := of_decide_eq_true hg
  obtain ⟨r1, σ1, h1c, hF⟩ := dx_b2_some hF
  obtain ⟨hg, hF⟩ := dx_gd_some hF
  refine cl_cr (va_runV (As := [.ref a1]) S (cm_J10_append l D dA _ A a0 a1 o0 o1  σ0 _ _ e0 e1 h1c) (cwV 1 hts (lw_V q1279 q655 q656 q97 q657) rfl rfl rfl ⟨rfl, cd_J10_append⟩ ⟨Nat.le_of_ble_eq_true rfl, Nat.le_of_ble_eq_true rfl⟩) (cl_preV V [.ref a1] e0 k2 rfl (by decide)) rfl rfl hl.1 rfl (lv_room (Nat.le_of_ble_eq_true rfl)) dJ10_append_4_2 ⟨Nat.le_of_ble_eq_true rfl, Nat.le_of_ble_eq_true rfl⟩) V (of_decide_eq_true hg) (fun bb1 ad _ _ hag hle ee1 V => ?_)
  replace e0 := e0.mv hag hle
  replace e1 := e1.mv hag hle
  refine W.widen (k := 1) (n := 160) (by first | omega | (dsimp only; omega)) (by first | omega | (dsimp only; omega)) ?_
  obtain ⟨hF1, hF2⟩ := dx_r2 hF
  subst hF1
  subst hF2
  exact cl_rr S V hr (Or.inl ⟨_, rfl⟩) hlocks ee1 dJ10_append_4_5
theorem cd_J9_init_2 : yJ9_init_2.cls ≠ "java/lang/invoke/MethodHandle" ∧ yJ9_init_2.cls ≠ "java/lang/invoke/VarHandle" ∧ (parseMethodDescriptor yJ9_init_2.desc).map (fun d => d.parameters.length) = some 1 := by decide +kernel
set_option maxHeartbeats 4000000 in
set_option maxRecDepth 100000 in
theorem cm_J9_init_2 (l : Launch) (D : va_G) (dA : Nat → ClassId) (ad0 : Nat → Nat) (A : Nat → Prop) (a0 : Nat) (a1 : Nat) (o0 : Nat) (o1 : Nat)  (σ0 : cl_S) (σ' : cl_S) (e0 : cl_at ad0 σ0 a0 o0) (e1 : cl_at ad0 σ0 a1 o1) (hF : cl_J9_init_2 o0 o1 σ0 = some σ') : cl_Cv l yJ9_init_2 cJ9_init_2 5 ({ frames := 7, cells := 2, slots := 200, locals := 155 }) D dA ad0 A [.ref a0, .ref a1] σ0 σ' := by
  refine cl_in RJ9 rfl (by decide) (Nat.le_of_ble_eq_true rfl) ?_
  intro p e s m below meth c ls S hr hlocks hini hv hl
  have hx := S.1
  have hb := S.2.1
  have hown := S.2.2.2.1
  have hts := S.2.2.2.2
  obtain ⟨hN, hK, hP, hD, hA, hZ⟩ := hv
  have V : cl_V D dA (ad0, cl_n σ0) ad0 A s.heap σ0 s s.heap [] := ⟨hN, hK, hP, hD, va_S.rf, hA, hZ, fun _ _ => rfl, Nat.le_refl _⟩
  obtain ⟨ad, V, e0, e1⟩ : ∃ ad, cl_V D dA (ad0, cl_n σ0) ad A s.heap σ0 s s.heap [] ∧ cl_at ad σ0 a0 o0 ∧ cl_at ad σ0 a1 o1 := ⟨ad0, V, e0, e1⟩
  replace hl : lv_has ls 5 [(0, .ref a0), (1, .ref a1)] := hl
  unfold cl_J9_init_2 at hF
  refine lv_aload_n hx hb dJ9_init_2_0 rfl (lv_at hl 0 rfl) ?_
  refine W.objInit hx hb hown (hts _ q625) (hts _ q123) (hts _ q124) rfl (by rw [S.2.2.1]; exact hl.1) rfl dJ9_init_2_1 (Nat.le_of_ble_eq_true rfl) (Nat.le_of_ble_eq_true rfl) ?_
  refine lv_aload_n hx hb dJ9_init_2_4 rfl (lv_at hl 1 rfl) ?_
  obtain ⟨hg, hF⟩ := dx_gd_some hF
  have k2 := of_decide_eq_true hg
  obtain ⟨r1, h1c, hF⟩ := dx_b1_some hF
  refine cl_ci (va_runV (As := []) S (cm_J4_length l D dA _ A a1 o1  σ0 _ e1 h1c) (cwV 0 hts (lw_V q729 q730 q731 q88 q732) rfl rfl rfl ⟨rfl, cd_J4_length⟩ ⟨Nat.le_of_ble_eq_true rfl, Nat.le_of_ble_eq_true rfl⟩) (cl_preVS V [] e1 k2) rfl rfl hl.1 rfl (lv_room (Nat.le_of_ble_eq_true rfl)) dJ9_init_2_5 ⟨Nat.le_of_ble_eq_true rfl, Nat.le_of_ble_eq_true rfl⟩) V (fun ad _ _ hag hle V => ?_)
  replace e0 := e0.mv hag hle
  replace e1 := e1.mv hag hle
  refine lv_istore_n (lv' := [(2, .int r1), (0, .ref a0), (1, .ref a1)]) hx hb dJ9_init_2_8 rfl hl (by decide) rfl (fun ls hl => ?_)
  refine lv_iload_n hx hb dJ9_init_2_9 rfl (lv_at hl 0 rfl) ?_
  refine lv_ldc hx hb hown (hts _ q1275) dJ9_init_2_10 ?_
  refine lv_icmp_ge (tgt := 22) hx hb dJ9_init_2_12 (by first | decide | (dsimp only [F0]; decide)) (fun hc => ?_) (fun hc => ?_)
  · replace hF := (if_pos hc).symm.trans hF
    cases hF
  · replace hF := (if_neg hc).symm.trans hF
    refine lv_iload_n hx hb dJ9_init_2_15 rfl (lv_at hl 0 rfl) ?_
    refine lv_bipush (v := 16) hx hb dJ9_init_2_16 (by decide) ?_
    refine lv_iadd hx hb dJ9_init_2_18 ?_
    refine lv_goto (tgt := 24) hx hb dJ9_init_2_19 (by first | decide | (dsimp only [F0]; decide)) ?_
    refine lv_istore_n (lv' := [(3, .int (r1 + (16 : Int32))), (2, .int r1), (0, .ref a0), (1, .ref a1)]) hx hb dJ9_init_2_24 rfl hl (by decide) rfl (fun ls hl => ?_)
    refine lv_aload_n hx hb dJ9_init_2_25 rfl (lv_at hl 3 rfl) ?_
    obtain ⟨r3, h3c, hF⟩ := dx_b1_some hF
    refine cl_ci (va_runV (As := []) S (cm_J4_coder l D dA _ A a1 o1  σ0 _ e1 h3c) (cwV 0 hts (lw_V q746 q734 q735 q88 q736) rfl rfl rfl ⟨rfl, cd_J4_coder⟩ ⟨Nat.le_of_ble_eq_true rfl, Nat.le_of_ble_eq_true rfl⟩) (cl_preVS V [] e1 k2) rfl rfl hl.1 rfl (lv_room (Nat.le_of_ble_eq_true rfl)) dJ9_init_2_26 ⟨Nat.le_of_ble_eq_true rfl, Nat.le_of_ble_eq_true rfl⟩) V (fun ad _ _ hag hle V => ?_)
    replace e0 := e0.mv hag hle
    replace e1 := e1.mv hag hle
    refine lv_istore (lv' := [(4, .int r3), (3, .int (r1 + (16 : Int32))), (2, .int r1), (0, .ref a0), (1, .ref a1)]) hx hb dJ9_init_2_29 hl (by decide) rfl (fun ls hl => ?_)
    refine lv_aload_n hx hb dJ9_init_2_31 rfl (lv_at hl 3 rfl) ?_
    refine lv_iload hx hb dJ9_init_2_32 (lv_at hl 0 rfl) ?_
    obtain ⟨hg, hF⟩ := dx_gd_some hF
    have k4 := of_decide_eq_true hg
    obtain ⟨hg, hF⟩ := dx_gd_some hF
    replace hg := of_decide_eq_true hg
    refine cl_piB S V e0 k4 rfl (by decide) in_J10 tyJ10 tyJ10_ok nmJ10 1 (by decide) rfl q641 rfl rfl hg.1 hg.2 dJ9_init_2_34 (fun _ _ V => ?_)
    refine lv_aload_n hx hb dJ9_init_2_37 rfl (lv_at hl 3 rfl) ?_
    refine lv_iload hx hb dJ9_init_2_38 (lv_at hl 0 rfl) ?_
    refine lv_if_ne (tgt := 49) hx hb dJ9_init_2_40 (by first | decide | (dsimp only [F0]; decide)) (fun hc => ?_) (fun hc => ?_)
    · replace hF := (if_neg hc).symm.trans hF
      cases hF
    · replace hF := (if_pos hc).symm.trans hF
      refine lv_iload_n hx hb dJ9_init_2_43 rfl (lv_at hl 1 rfl) ?_
      obtain ⟨hg, hF⟩ := dx_gd_some hF
      replace hg := of_decide_eq_true hg
      refine cl_newaM 1 21 40 (atype := .byte) S V (by decide) (by decide) (by decide) rfl rfl (fun _ _ h => h) q206 rfl hg (Nat.le_of_ble_eq_true rfl) (by decide) (Nat.le_of_ble_eq_true rfl) (Nat.le_of_ble_eq_true rfl) dJ9_init_2_44 (fun bb5 ad _ hag ee5 V => ?_)
      replace e0 := cl_at.nw 21 ((r1 + (16 : Int32)).toNatClampNeg) e0 hag
      replace e1 := cl_at.nw 21 ((r1 + (16 : Int32)).toNatClampNeg) e1 hag
      have k5 : cl_k (cl_nw (cl_wi σ0 o0 1 r3) 21 ((r1 + (16 : Int32)).toNatClampNeg)) (cl_n (cl_wi σ0 o0 1 r3) + 1) = 21 := cl_k_nw
      obtain ⟨σ6, eσ6⟩ : ∃ x, x = (cl_nw (cl_wi σ0 o0 1 r3) 21 ((r1 + (16 : Int32)).toNatClampNeg)) := ⟨_, rfl⟩
      rw [← eσ6] at V
      replace hF := dx_let_e eσ6 hF
      replace e0 : cl_at ad σ6 a0 o0 := by rw [eσ6]; exact e0
      replace ee5 : cl_at ad σ6 bb5 (cl_n (cl_wi σ0 o0 1 r3) + 1) := by rw [eσ6]; exact ee5
      replace e1 : cl_at ad σ6 a1 o1 := by rw [eσ6]; exact e1
      replace k5 : cl_k σ6 (cl_n (cl_wi σ0 o0 1 r3) + 1) = 21 := by rw [eσ6]; exact k5
      refine lv_goto (tgt := 53) hx hb dJ9_init_2_46 (by first | decide | (dsimp only [F0]; decide)) ?_
      obtain ⟨hg, hF⟩ := dx_gd_some hF
      have k7 := of_decide_eq_true hg
      refine cl_pr S V e0 k7 rfl (by decide) in_J10 tyJ10 tyJ10_ok nmJ10 0 (by decide) rfl q640 rfl rfl ee5 rfl rfl dJ9_init_2_53 (fun _ _ V => ?_)
      refine lv_aload_n hx hb dJ9_init_2_56 rfl (lv_at hl 3 rfl) ?_
      refine lv_aload_n hx hb dJ9_init_2_57 rfl (lv_at hl 4 rfl) ?_
      obtain ⟨r8, σ8, h8c, hF⟩ := dx_b2_some hF
      obtain ⟨hg, hF⟩ := dx_gd_some hF
      refine cl_cr (va_runU (As := [.ref a1]) S (cm_J10_append_4 l D dA _ A a0 a1 o0 o1  (cl_wr σ6 o0 0 (cl_n (cl_wi σ0 o0 1 r3) + 1)) _ _ e0 e1 h8c) (cl_cwQ (owner := "java/lang/AbstractStringBuilder") (k := 1) hts q1276 q2054 q659 q660 (hts _ q2063) q1277 q97 q1278 (by decide) (by decide +kernel) ⟨Nat.le_of_ble_eq_true rfl, Nat.le_of_ble_eq_true rfl⟩) (cl_preV V [.ref a1] e0 k7 rfl (by decide)) rfl rfl hl.1 rfl (lv_room (Nat.le_of_ble_eq_true rfl)) dJ9_init_2_58 ⟨Nat.le_of_ble_eq_true rfl, Nat.le_of_ble_eq_true rfl⟩) V (of_decide_eq_true hg) (fun bb8 ad _ _ hag hle ee8 V => ?_)
      replace e0 := e0.mv hag hle
      replace e1 := e1.mv hag hle
      refine lv_pop hx hb dJ9_init_2_61 rfl ?_
      refine W.widen (k := 2) (n := 200) (by first | omega | (dsimp only; omega)) (by first | omega | (dsimp only; omega)) ?_
      replace hF := Option.some.inj hF
      subst hF
      exact cl_rv S V hr hlocks dJ9_init_2_62
theorem cd_J10_init_2 : yJ10_init_2.cls ≠ "java/lang/invoke/MethodHandle" ∧ yJ10_init_2.cls ≠ "java/lang/invoke/VarHandle" ∧ (parseMethodDescriptor yJ10_init_2.desc).map (fun d => d.parameters.length) = some 1 := by decide +kernel
set_option maxHeartbeats 4000000 in
set_option maxRecDepth 100000 in
theorem cm_J10_init_2 (l : Launch) (D : va_G) (dA : Nat → ClassId) (ad0 : Nat → Nat) (A : Nat → Prop) (a0 : Nat) (a1 : Nat) (o0 : Nat) (o1 : Nat)  (σ0 : cl_S) (σ' : cl_S) (e0 : cl_at ad0 σ0 a0 o0) (e1 : cl_at ad0 σ0 a1 o1) (hF : cl_J10_init_2 o0 o1 σ0 = some σ') : cl_Cv l yJ10_init_2 cJ10_init_2 2 ({ frames := 8, cells := 2, slots := 200, locals := 179 }) D dA ad0 A [.ref a0, .ref a1] σ0 σ' := by
  refine cl_in RJ10 rfl (by decide) (Nat.le_of_ble_eq_true rfl) ?_
  intro p e s m below meth c ls S hr hlocks hini hv hl
  have hx := S.1
  have hb := S.2.1
  have hown := S.2.2.2.1
  have hts := S.2.2.2.2
  obtain ⟨hN, hK, hP, hD, hA, hZ⟩ := hv
  have V : cl_V D dA (ad0, cl_n σ0) ad0 A s.heap σ0 s s.heap [] := ⟨hN, hK, hP, hD, va_S.rf, hA, hZ, fun _ _ => rfl, Nat.le_refl _⟩
  obtain ⟨ad, V, e0, e1⟩ : ∃ ad, cl_V D dA (ad0, cl_n σ0) ad A s.heap σ0 s s.heap [] ∧ cl_at ad σ0 a0 o0 ∧ cl_at ad σ0 a1 o1 := ⟨ad0, V, e0, e1⟩
  replace hl : lv_has ls 2 [(0, .ref a0), (1, .ref a1)] := hl
  unfold cl_J10_init_2 at hF
  refine lv_aload_n hx hb dJ10_init_2_0 rfl (lv_at hl 0 rfl) ?_
  refine lv_aload_n hx hb dJ10_init_2_1 rfl (lv_at hl 1 rfl) ?_
  obtain ⟨σ1, h1c, hF⟩ := dx_b1_some hF
  refine cl_cv (va_runI (As := [.ref a1]) S (cm_J9_init_2 l D dA _ A a0 a1 o0 o1  σ0 _ e0 e1 h1c) (cwI 1 hts (lw_meth q1274) rfl rfl rfl (hts _ q96) (hts _ q1272) (hts _ q1273) rfl cd_J9_init_2 ⟨Nat.le_of_ble_eq_true rfl, Nat.le_of_ble_eq_true rfl⟩) (cl_preS V [.ref a0, .ref a1]) rfl rfl hl.1 rfl (lv_room (Nat.le_of_ble_eq_true rfl)) dJ10_init_2_2 ⟨Nat.le_of_ble_eq_true rfl, Nat.le_of_ble_eq_true rfl⟩) V (fun ad _ _ hag hle V => ?_)
  replace e0 := e0.mv hag hle
  replace e1 := e1.mv hag hle
  refine W.widen (k := 2) (n := 200) (by first | omega | (dsimp only; omega)) (by first | omega | (dsimp only; omega)) ?_
  replace hF := Option.some.inj hF
  subst hF
  exact cl_rv S V hr hlocks dJ10_init_2_5
theorem cd_X4_written : yX4_written.cls ≠ "java/lang/invoke/MethodHandle" ∧ yX4_written.cls ≠ "java/lang/invoke/VarHandle" ∧ (parseMethodDescriptor yX4_written.desc).map (fun d => d.parameters.length) = some 2 := by decide +kernel
set_option maxHeartbeats 4000000 in
set_option maxRecDepth 100000 in
theorem cm_X4_written (l : Launch) (D : va_G) (dA : Nat → ClassId) (ad0 : Nat → Nat) (A : Nat → Prop) (a0 : Nat) (a1 : Nat) (o0 : Nat) (o1 : Nat) (p1 : Int32) (σ0 : cl_S) (r : Nat) (σ' : cl_S) (e0 : cl_at ad0 σ0 a0 o0) (e1 : cl_at ad0 σ0 a1 o1) (hF : cl_X4_written o0 o1 σ0 p1 = some (r, σ')) : cl_Cr l yX4_written cX4_written 8 (.object "java/lang/CharSequence") ({ frames := 9, cells := 130, slots := 13324, locals := 200 }) D dA ad0 A [.ref a0, .ref a1, .int p1] σ0 r σ' := by
  refine cl_in RX4 rfl (by decide) (Nat.le_of_ble_eq_true rfl) ?_
  intro p e s m below meth c ls S hr hlocks hini hv hl
  have hx := S.1
  have hb := S.2.1
  have hown := S.2.2.2.1
  have hts := S.2.2.2.2
  obtain ⟨hN, hK, hP, hD, hA, hZ⟩ := hv
  have V : cl_V D dA (ad0, cl_n σ0) ad0 A s.heap σ0 s s.heap [] := ⟨hN, hK, hP, hD, va_S.rf, hA, hZ, fun _ _ => rfl, Nat.le_refl _⟩
  obtain ⟨ad, V, e0, e1⟩ : ∃ ad, cl_V D dA (ad0, cl_n σ0) ad A s.heap σ0 s s.heap [] ∧ cl_at ad σ0 a0 o0 ∧ cl_at ad σ0 a1 o1 := ⟨ad0, V, e0, e1⟩
  replace hl : lv_has ls 8 [(0, .ref a0), (1, .ref a1), (2, .int p1)] := hl
  unfold cl_X4_written at hF
  have hL33 : ∀ (v3 : Nat) (n : Nat) (v4 : Int32) (v5 : Int32) (σ : cl_S) (ad : Nat → Nat) (b3 : Nat) (hn : n ≤ 11) (H : Heap) (locs : List Loc) (ls : Array Slot), dx_lp (fun x => cl_X4_written_L33 o0 o1 x.2.2 v3 x.1 x.2.1) n (v4, v5, σ) = some (r, σ') → cl_at ad σ a0 o0 → cl_at ad σ a1 o1 → cl_at ad σ b3 v3 → cl_V D dA (ad0, cl_n σ0) ad A s.heap σ s H locs → lv_has ls 8 [(0, .ref a0), (1, .ref a1), (3, .ref b3), (4, .int v4), (5, .int v5)] → W p l e ({ frames := 9, cells := 130, slots := 13324, locals := 200 }) s m ([.ref a0, .ref a1, .int p1] : List Value).toArray below meth c H locs (9 + 11 * (11 - n)) (564 + 1160 * (11 - n)) (MQ below (cl_Qr D dA ad0 A σ0 σ' r) ([.ref a0, .ref a1, .int p1] : List Value).toArray s 130 13324 A) (F0 m 33 ls []) := by
    intro v3 n
    induction n with
    | zero =>
      intro v4 v5 σ ad b3 hn H locs ls hF e0 e1 e3 V hl
      exact (dx_lp_0 hF).elim
    | succ n ih33 =>
      intro v4 v5 σ ad b3 hn H locs ls hF e0 e1 e3 V hl
      obtain ⟨y33, hF, hz33⟩ := dx_lp_s hF
      replace hF : cl_X4_written_L33 o0 o1 σ v3 v4 v5 = some y33 := hF
      unfold cl_X4_written_L33 at hF
      have hJ81 : ∀ (σ : cl_S) (v5 : Int32) (v6 : Int32) (v7 : Int32) (t0 : Nat) (t1 : Int32) (ad : Nat → Nat) (b3 : Nat) (bt0 : Nat) (H : Heap) (locs : List Loc) (ls : Array Slot), cl_X4_written_J81 o0 o1 σ v3 v5 v6 v7 t0 t1 = some y33 → cl_at ad σ a0 o0 → cl_at ad σ a1 o1 → cl_at ad σ b3 v3 → cl_at ad σ bt0 t0 → cl_V D dA (ad0, cl_n σ0) ad A s.heap σ s H locs → lv_has ls 8 [(0, .ref a0), (1, .ref a1), (3, .ref b3), (5, .int v5), (6, .int v6), (7, .int v7)] → W p l e ({ frames := 9, cells := 130, slots := 13324, locals := 200 }) s m ([.ref a0, .ref a1, .int p1] : List Value).toArray below meth c H locs (9 + 11 * (11 - (n + 1)) + 0) (564 + 1160 * (11 - (n + 1)) + 0) (MQ below (cl_Qr D dA ad0 A σ0 σ' r) ([.ref a0, .ref a1, .int p1] : List Value).toArray s 130 13324 A) (F0 m 81 ls [.int t1, .ref bt0]) := by
        intro σ v5 v6 v7 t0 t1 ad b3 bt0 H locs ls hF e0 e1 e3 et0 V hl
        unfold cl_X4_written_J81 at hF
        obtain ⟨hg, hF⟩ := dx_gd_some hF
        have k20 := of_decide_eq_true hg
        obtain ⟨r19, σ19, h19c, hF⟩ := dx_b2_some hF
        obtain ⟨hg, hF⟩ := dx_gd_some hF
        refine cl_cr (va_runV (As := [.int t1]) S (cm_J10_append_2 l D dA _ A bt0 t0 t1 σ _ _ et0 h19c) (cwV 1 hts (lw_V q1280 q773 q774 q97 q775) rfl rfl rfl ⟨rfl, cd_J10_append_2⟩ ⟨Nat.le_of_ble_eq_true rfl, Nat.le_of_ble_eq_true rfl⟩) (cl_preV V [.int t1] et0 k20 rfl (by decide)) rfl rfl hl.1 rfl (lv_room (Nat.le_of_ble_eq_true rfl)) dX4_written_81 ⟨by show _ ≤ 130; first | omega | (dsimp only; omega), by show _ ≤ 13324; first | omega | (dsimp only; omega)⟩) V (of_decide_eq_true hg) (fun bb19 ad _ _ hag hle ee19 V => ?_)
        replace e0 := e0.mv hag hle
        replace e1 := e1.mv hag hle
        replace e3 := e3.mv hag hle
        refine lv_iload hx hb dX4_written_84 (lv_at hl 4 rfl) ?_
        obtain ⟨hg, hF⟩ := dx_gd_some hF
        have k22 := of_decide_eq_true hg
        obtain ⟨r21, σ21, h21c, hF⟩ := dx_b2_some hF
        obtain ⟨hg, hF⟩ := dx_gd_some hF
        refine cl_cr (va_runV (As := [.int v6]) S (cm_J10_append_3 l D dA _ A bb19 r19 v6 σ19 _ _ ee19 h21c) (cwV 1 hts (lw_V q1243 q1244 q1245 q97 q1246) rfl rfl rfl ⟨rfl, cd_J10_append_3⟩ ⟨Nat.le_of_ble_eq_true rfl, Nat.le_of_ble_eq_true rfl⟩) (cl_preV V [.int v6] ee19 k22 rfl (by decide)) rfl rfl hl.1 rfl (lv_room (Nat.le_of_ble_eq_true rfl)) dX4_written_86 ⟨by show _ ≤ 130; first | omega | (dsimp only; omega), by show _ ≤ 13324; first | omega | (dsimp only; omega)⟩) V (of_decide_eq_true hg) (fun bb21 ad _ _ hag hle ee21 V => ?_)
        replace e0 := e0.mv hag hle
        replace e1 := e1.mv hag hle
        replace e3 := e3.mv hag hle
        refine cl_new S V rfl (by decide) in_J10 tyJ10 tyJ10_ok cl_dfJ10 q1239 q618 q97 (by show _ ≤ 130; first | omega | (dsimp only; omega)) (by show _ ≤ 13324; first | omega | (dsimp only; omega)) dX4_written_89 (fun bb23 ad _ hag ee23 V => ?_)
        replace ee21 := cl_at.nw 17 0 ee21 hag
        replace e0 := cl_at.nw 17 0 e0 hag
        replace e1 := cl_at.nw 17 0 e1 hag
        replace e3 := cl_at.nw 17 0 e3 hag
        have k23 : cl_k (cl_nw σ21 17 0) (cl_n σ21 + 1) = 17 := cl_k_nw
        refine lv_dup hx hb dX4_written_92 rfl ?_
        obtain ⟨σ24, h24c, hF⟩ := dx_b1_some hF
        refine cl_cv (va_runI (As := []) S (cm_J10_init l D dA _ A bb23 (cl_n σ21 + 1)  (cl_nw σ21 17 0) _ ee23 h24c) (cwI 0 hts (lw_meth q621) rfl rfl rfl (hts _ q97) (hts _ q1240) (hts _ q620) rfl cd_J10_init ⟨Nat.le_of_ble_eq_true rfl, Nat.le_of_ble_eq_true rfl⟩) (cl_preS V [.ref bb23]) rfl rfl hl.1 rfl (lv_room (Nat.le_of_ble_eq_true rfl)) dX4_written_93 ⟨by show _ ≤ 130; first | omega | (dsimp only; omega), by show _ ≤ 13324; first | omega | (dsimp only; omega)⟩) V (fun ad _ _ hag hle V => ?_)
        replace ee21 := ee21.mv hag hle
        replace ee23 := ee23.mv hag hle
        replace e0 := e0.mv hag hle
        replace e1 := e1.mv hag hle
        replace e3 := e3.mv hag hle
        refine va_ldcS hx hb hown V.1.x.2.2.2.2.2.1 dX4_written_96 ?_
        have ee25 := cl_cat (i := 2) V (by decide) (by decide)
        obtain ⟨hg, hF⟩ := dx_gd_some hF
        have k27 := of_decide_eq_true hg
        obtain ⟨r26, σ26, h26c, hF⟩ := dx_b2_some hF
        obtain ⟨hg, hF⟩ := dx_gd_some hF
        refine cl_cr (va_runV (As := [.ref (ad0 2)]) S (cm_J10_append l D dA _ A bb23 (ad0 2) (cl_n σ21 + 1) 2  σ24 _ _ ee23 ee25 h26c) (cwV 1 hts (lw_V q1242 q655 q656 q97 q657) rfl rfl rfl ⟨rfl, cd_J10_append⟩ ⟨Nat.le_of_ble_eq_true rfl, Nat.le_of_ble_eq_true rfl⟩) (cl_preV V [.ref (ad0 2)] ee23 k27 rfl (by decide)) rfl rfl hl.1 rfl (lv_room (Nat.le_of_ble_eq_true rfl)) dX4_written_98 ⟨by show _ ≤ 130; first | omega | (dsimp only; omega), by show _ ≤ 13324; first | omega | (dsimp only; omega)⟩) V (of_decide_eq_true hg) (fun bb26 ad _ _ hag hle ee26 V => ?_)
        replace ee21 := ee21.mv hag hle
        replace e0 := e0.mv hag hle
        replace e1 := e1.mv hag hle
        replace e3 := e3.mv hag hle
        refine lv_aload_n hx hb dX4_written_101 rfl (lv_at hl 1 rfl) ?_
        obtain ⟨hg, hF⟩ := dx_gd_some hF
        have k28 := of_decide_eq_true hg
        obtain ⟨hg, hF⟩ := dx_gd_some hF
        refine cl_gr S V e1 k28 rfl (by decide) in_X2 8 (by decide) rfl q181 rfl dX4_written_102 (of_decide_eq_true hg) (fun bb29 ee29 => ?_)
        refine lv_iload hx hb dX4_written_105 (lv_at hl 4 rfl) ?_
        obtain ⟨hg, hF⟩ := dx_gd_some hF
        have k30 := of_decide_eq_true hg
        obtain ⟨hg, hF⟩ := dx_gd_some hF
        refine cl_ld S V ee29 k30 (dx_inb_in hg) dX4_written_107 ?_
        obtain ⟨hg, hF⟩ := dx_gd_some hF
        have k32 := of_decide_eq_true hg
        obtain ⟨r31, σ31, h31c, hF⟩ := dx_b2_some hF
        obtain ⟨hg, hF⟩ := dx_gd_some hF
        refine cl_cr (va_runV (As := [.int (cl_i σ26 (cl_r σ26 o1 8) v6.toNatClampNeg)]) S (cm_J10_append_3 l D dA _ A bb26 r26 (cl_i σ26 (cl_r σ26 o1 8) v6.toNatClampNeg) σ26 _ _ ee26 h31c) (cwV 1 hts (lw_V q1243 q1244 q1245 q97 q1246) rfl rfl rfl ⟨rfl, cd_J10_append_3⟩ ⟨Nat.le_of_ble_eq_true rfl, Nat.le_of_ble_eq_true rfl⟩) (cl_preV V [.int (cl_i σ26 (cl_r σ26 o1 8) v6.toNatClampNeg)] ee26 k32 rfl (by decide)) rfl rfl hl.1 rfl (lv_room (Nat.le_of_ble_eq_true rfl)) dX4_written_108 ⟨by show _ ≤ 130; first | omega | (dsimp only; omega), by show _ ≤ 13324; first | omega | (dsimp only; omega)⟩) V (of_decide_eq_true hg) (fun bb31 ad _ _ hag hle ee31 V => ?_)
        replace ee21 := ee21.mv hag hle
        replace e0 := e0.mv hag hle
        replace e1 := e1.mv hag hle
        replace e3 := e3.mv hag hle
        refine va_ldcS hx hb hown V.1.x.2.2.2.2.2.2.1 dX4_written_111 ?_
        have ee33 := cl_cat (i := 3) V (by decide) (by decide)
        obtain ⟨hg, hF⟩ := dx_gd_some hF
        have k35 := of_decide_eq_true hg
        obtain ⟨r34, σ34, h34c, hF⟩ := dx_b2_some hF
        obtain ⟨hg, hF⟩ := dx_gd_some hF
        refine cl_cr (va_runV (As := [.ref (ad0 3)]) S (cm_J10_append l D dA _ A bb31 (ad0 3) r31 3  σ31 _ _ ee31 ee33 h34c) (cwV 1 hts (lw_V q1242 q655 q656 q97 q657) rfl rfl rfl ⟨rfl, cd_J10_append⟩ ⟨Nat.le_of_ble_eq_true rfl, Nat.le_of_ble_eq_true rfl⟩) (cl_preV V [.ref (ad0 3)] ee31 k35 rfl (by decide)) rfl rfl hl.1 rfl (lv_room (Nat.le_of_ble_eq_true rfl)) dX4_written_113 ⟨by show _ ≤ 130; first | omega | (dsimp only; omega), by show _ ≤ 13324; first | omega | (dsimp only; omega)⟩) V (of_decide_eq_true hg) (fun bb34 ad _ _ hag hle ee34 V => ?_)
        replace ee21 := ee21.mv hag hle
        replace e0 := e0.mv hag hle
        replace e1 := e1.mv hag hle
        replace e3 := e3.mv hag hle
        refine lv_iload hx hb dX4_written_116 (lv_at hl 5 rfl) ?_
        obtain ⟨hg, hF⟩ := dx_gd_some hF
        have k37 := of_decide_eq_true hg
        obtain ⟨r36, σ36, h36c, hF⟩ := dx_b2_some hF
        obtain ⟨hg, hF⟩ := dx_gd_some hF
        refine cl_cr (va_runV (As := [.int v7]) S (cm_J10_append_3 l D dA _ A bb34 r34 v7 σ34 _ _ ee34 h36c) (cwV 1 hts (lw_V q1243 q1244 q1245 q97 q1246) rfl rfl rfl ⟨rfl, cd_J10_append_3⟩ ⟨Nat.le_of_ble_eq_true rfl, Nat.le_of_ble_eq_true rfl⟩) (cl_preV V [.int v7] ee34 k37 rfl (by decide)) rfl rfl hl.1 rfl (lv_room (Nat.le_of_ble_eq_true rfl)) dX4_written_118 ⟨by show _ ≤ 130; first | omega | (dsimp only; omega), by show _ ≤ 13324; first | omega | (dsimp only; omega)⟩) V (of_decide_eq_true hg) (fun bb36 ad _ _ hag hle ee36 V => ?_)
        replace ee21 := ee21.mv hag hle
        replace e0 := e0.mv hag hle
        replace e1 := e1.mv hag hle
        replace e3 := e3.mv hag hle
        obtain ⟨hg, hF⟩ := dx_gd_some hF
        have k39 := of_decide_eq_true hg
        obtain ⟨r38, σ38, h38c, hF⟩ := dx_b2_some hF
        obtain ⟨hg, hF⟩ := dx_gd_some hF
        refine cl_cr (va_runV (As := []) S (cm_J10_toString l D dA _ A bb36 r36  σ36 _ _ ee36 h38c) (cwV 0 hts (lw_V q1268 q795 q796 q97 q797) rfl rfl rfl ⟨rfl, cd_J10_toString⟩ ⟨Nat.le_of_ble_eq_true rfl, Nat.le_of_ble_eq_true rfl⟩) (cl_preV V [] ee36 k39 rfl (by decide)) rfl rfl hl.1 rfl (lv_room (Nat.le_of_ble_eq_true rfl)) dX4_written_121 ⟨by show _ ≤ 130; first | omega | (dsimp only; omega), by show _ ≤ 13324; first | omega | (dsimp only; omega)⟩) V (of_decide_eq_true hg) (fun bb38 ad _ _ hag hle ee38 V => ?_)
        replace ee21 := ee21.mv hag hle
        replace e0 := e0.mv hag hle
        replace e1 := e1.mv hag hle
        replace e3 := e3.mv hag hle
        obtain ⟨hg, hF⟩ := dx_gd_some hF
        have k41 := of_decide_eq_true hg
        obtain ⟨r40, σ40, h40c, hF⟩ := dx_b2_some hF
        obtain ⟨hg, hF⟩ := dx_gd_some hF
        refine cl_cr (va_runV (As := [.ref bb38]) S (cm_J10_append l D dA _ A bb21 bb38 r21 r38  σ38 _ _ ee21 ee38 h40c) (cwV 1 hts (lw_V q1242 q655 q656 q97 q657) rfl rfl rfl ⟨rfl, cd_J10_append⟩ ⟨Nat.le_of_ble_eq_true rfl, Nat.le_of_ble_eq_true rfl⟩) (cl_preV V [.ref bb38] ee21 k41 rfl (by decide)) rfl rfl hl.1 rfl (lv_room (Nat.le_of_ble_eq_true rfl)) dX4_written_124 ⟨by show _ ≤ 130; first | omega | (dsimp only; omega), by show _ ≤ 13324; first | omega | (dsimp only; omega)⟩) V (of_decide_eq_true hg) (fun bb40 ad _ _ hag hle ee40 V => ?_)
        replace e0 := e0.mv hag hle
        replace e1 := e1.mv hag hle
        replace e3 := e3.mv hag hle
        refine lv_pop hx hb dX4_written_127 rfl ?_
        refine lv_iload hx hb dX4_written_128 (lv_at hl 5 rfl) ?_
        refine lv_istore (lv' := [(4, .int v7), (0, .ref a0), (1, .ref a1), (3, .ref b3), (5, .int v5), (6, .int v6), (7, .int v7)]) hx hb dX4_written_130 hl (by decide) rfl (fun ls hl => ?_)
        refine lv_iinc (v := (v5 + (1 : Int32))) (lv' := [(5, .int (v5 + (1 : Int32))), (4, .int v7), (0, .ref a0), (1, .ref a1), (3, .ref b3), (6, .int v6), (7, .int v7)]) hx hb dX4_written_132 hl (k := 4) rfl rfl (by decide) rfl (fun ls hl => ?_)
        refine lv_goto (tgt := 33) hx hb dX4_written_135 (by decide) ?_
        refine W.widen (k := 9 + 11 * (11 - n)) (n := 564 + 1160 * (11 - n)) (by first | omega | (dsimp only; omega)) (by first | omega | (dsimp only; omega)) ?_
        replace hF := Option.some.inj hF
        subst hF
        exact ih33 v7 (v5 + (1 : Int32)) σ40 _ _ (by omega) _ _ _ (dx_lk_l hz33) e0 e1 e3 V (lv_sub hl [2, 3, 4, 1, 0] rfl)
      refine lv_iload hx hb dX4_written_33 (lv_at hl 4 rfl) ?_
      refine lv_aload_n hx hb dX4_written_35 rfl (lv_at hl 0 rfl) ?_
      obtain ⟨hg, hF⟩ := dx_gd_some hF
      have k12 := of_decide_eq_true hg
      refine cl_gi S V e0 k12 rfl (by decide) in_X4 7 (by decide) rfl q233 rfl dX4_written_36 ?_
      refine lv_icmp_ge (tgt := 138) hx hb dX4_written_39 (by decide) (fun hc => ?_) (fun hc => ?_)
      · replace hF := (if_pos hc).symm.trans hF
        replace hF := dx_ex_k hF hz33
        refine W.widen (k := 130) (n := 13324) (by first | omega | (dsimp only; omega)) (by first | omega | (dsimp only; omega)) ?_
        refine lv_aload_n hx hb dX4_written_138 rfl (lv_at hl 2 rfl) ?_
        refine W.widen (k := 130) (n := 13324) (by first | omega | (dsimp only; omega)) (by first | omega | (dsimp only; omega)) ?_
        obtain ⟨hF1, hF2⟩ := dx_r2 hF
        subst hF1
        subst hF2
        exact cl_rr S V hr (Or.inl ⟨_, rfl⟩) hlocks e3 dX4_written_139
      · replace hF := (if_neg hc).symm.trans hF
        refine lv_aload_n hx hb dX4_written_42 rfl (lv_at hl 0 rfl) ?_
        obtain ⟨hg, hF⟩ := dx_gd_some hF
        refine cl_gr S V e0 k12 rfl (by decide) in_X4 6 (by decide) rfl q231 rfl dX4_written_43 (of_decide_eq_true hg) (fun bb13 ee13 => ?_)
        refine lv_iload hx hb dX4_written_46 (lv_at hl 4 rfl) ?_
        obtain ⟨hg, hF⟩ := dx_gd_some hF
        have k14 := of_decide_eq_true hg
        obtain ⟨hg, hF⟩ := dx_gd_some hF
        refine cl_ld S V ee13 k14 (dx_inb_in hg) dX4_written_48 ?_
        refine lv_istore (lv' := [(6, .int (cl_i σ (cl_r σ o0 6) v5.toNatClampNeg)), (0, .ref a0), (1, .ref a1), (3, .ref b3), (4, .int v4), (5, .int v5)]) hx hb dX4_written_49 hl (by decide) rfl (fun ls hl => ?_)
        refine lv_aload_n hx hb dX4_written_51 rfl (lv_at hl 2 rfl) ?_
        refine lv_iload hx hb dX4_written_52 (lv_at hl 0 rfl) ?_
        refine lv_iload hx hb dX4_written_54 (lv_at hl 4 rfl) ?_
        obtain ⟨hg, hF⟩ := dx_gd_some hF
        have k16 := of_decide_eq_true hg
        obtain ⟨r15, h15c, hF⟩ := dx_b1_some hF
        refine cl_ci (va_runV (As := [.int (cl_i σ (cl_r σ o0 6) v5.toNatClampNeg), .int v4]) S (cm_X2_otherOf l D dA _ A a1 o1 (cl_i σ (cl_r σ o0 6) v5.toNatClampNeg) v4 σ _ e1 h15c) (cwV 2 hts (lw_V q1229 q1171 q1172 q79 q1173) rfl rfl rfl ⟨rfl, cd_X2_otherOf⟩ ⟨Nat.le_of_ble_eq_true rfl, Nat.le_of_ble_eq_true rfl⟩) (cl_preV V [.int (cl_i σ (cl_r σ o0 6) v5.toNatClampNeg), .int v4] e1 k16 rfl (by decide)) rfl rfl hl.1 rfl (lv_room (Nat.le_of_ble_eq_true rfl)) dX4_written_56 ⟨by show _ ≤ 130; first | omega | (dsimp only; omega), by show _ ≤ 13324; first | omega | (dsimp only; omega)⟩) V (fun ad _ _ hag hle V => ?_)
        replace e0 := e0.mv hag hle
        replace e1 := e1.mv hag hle
        replace e3 := e3.mv hag hle
        refine lv_istore (lv' := [(7, .int r15), (6, .int (cl_i σ (cl_r σ o0 6) v5.toNatClampNeg)), (0, .ref a0), (1, .ref a1), (3, .ref b3), (4, .int v4), (5, .int v5)]) hx hb dX4_written_59 hl (by decide) rfl (fun ls hl => ?_)
        refine lv_aload_n hx hb dX4_written_61 rfl (lv_at hl 4 rfl) ?_
        refine lv_aload_n hx hb dX4_written_62 rfl (lv_at hl 3 rfl) ?_
        obtain ⟨hg, hF⟩ := dx_gd_some hF
        refine cl_gr S V e1 k16 rfl (by decide) in_X2 6 (by decide) rfl q172 rfl dX4_written_63 (of_decide_eq_true hg) (fun bb17 ee17 => ?_)
        refine lv_iload hx hb dX4_written_66 (lv_at hl 1 rfl) ?_
        obtain ⟨hg, hF⟩ := dx_gd_some hF
        have k18 := of_decide_eq_true hg
        obtain ⟨hg, hF⟩ := dx_gd_some hF
        refine cl_ld S V ee17 k18 (dx_inb_in hg) dX4_written_68 ?_
        refine lv_iload hx hb dX4_written_69 (lv_at hl 5 rfl) ?_
        refine lv_icmp_ne (tgt := 79) hx hb dX4_written_71 (by decide) (fun hc => ?_) (fun hc => ?_)
        · replace hF := (if_neg hc).symm.trans hF
          refine lv_bipush (v := 60) hx hb dX4_written_79 (by decide) ?_
          refine W.widen (k := (9 + 11 * (11 - (n + 1)) + 0)) (n := (564 + 1160 * (11 - (n + 1)) + 0)) (by first | omega | (dsimp only; omega)) (by first | omega | (dsimp only; omega)) ?_
          exact hJ81 σ v5 (cl_i σ (cl_r σ o0 6) v5.toNatClampNeg) r15 v3 (60 : Int32) _ _ _ _ _ _ hF e0 e1 e3 e3 V (lv_sub hl [2, 3, 4, 6, 1, 0] rfl)
        · replace hF := (if_pos hc).symm.trans hF
          refine lv_bipush (v := 62) hx hb dX4_written_74 (by decide) ?_
          refine lv_goto (tgt := 81) hx hb dX4_written_76 (by decide) ?_
          refine W.widen (k := (9 + 11 * (11 - (n + 1)) + 0)) (n := (564 + 1160 * (11 - (n + 1)) + 0)) (by first | omega | (dsimp only; omega)) (by first | omega | (dsimp only; omega)) ?_
          exact hJ81 σ v5 (cl_i σ (cl_r σ o0 6) v5.toNatClampNeg) r15 v3 (62 : Int32) _ _ _ _ _ _ hF e0 e1 e3 e3 V (lv_sub hl [2, 3, 4, 6, 1, 0] rfl)
  refine cl_new S V rfl (by decide) in_J10 tyJ10 tyJ10_ok cl_dfJ10 q1239 q618 q97 (Nat.le_of_ble_eq_true rfl) (Nat.le_of_ble_eq_true rfl) dX4_written_0 (fun bb1 ad _ hag ee1 V => ?_)
  replace e0 := cl_at.nw 17 0 e0 hag
  replace e1 := cl_at.nw 17 0 e1 hag
  have k1 : cl_k (cl_nw σ0 17 0) (cl_n σ0 + 1) = 17 := cl_k_nw
  refine lv_dup hx hb dX4_written_3 rfl ?_
  refine cl_new S V rfl (by decide) in_J10 tyJ10 tyJ10_ok cl_dfJ10 q1239 q618 q97 (Nat.le_of_ble_eq_true rfl) (Nat.le_of_ble_eq_true rfl) dX4_written_4 (fun bb2 ad _ hag ee2 V => ?_)
  replace ee1 := cl_at.nw 17 0 ee1 hag
  replace e0 := cl_at.nw 17 0 e0 hag
  replace e1 := cl_at.nw 17 0 e1 hag
  have k2 : cl_k (cl_nw (cl_nw σ0 17 0) 17 0) (cl_n (cl_nw σ0 17 0) + 1) = 17 := cl_k_nw
  refine lv_dup hx hb dX4_written_7 rfl ?_
  obtain ⟨σ3, h3c, hF⟩ := dx_b1_some hF
  refine cl_cv (va_runI (As := []) S (cm_J10_init l D dA _ A bb2 (cl_n (cl_nw σ0 17 0) + 1)  (cl_nw (cl_nw σ0 17 0) 17 0) _ ee2 h3c) (cwI 0 hts (lw_meth q621) rfl rfl rfl (hts _ q97) (hts _ q1240) (hts _ q620) rfl cd_J10_init ⟨Nat.le_of_ble_eq_true rfl, Nat.le_of_ble_eq_true rfl⟩) (cl_preS V [.ref bb2]) rfl rfl hl.1 rfl (lv_room (Nat.le_of_ble_eq_true rfl)) dX4_written_8 ⟨Nat.le_of_ble_eq_true rfl, Nat.le_of_ble_eq_true rfl⟩) V (fun ad _ _ hag hle V => ?_)
  replace ee1 := ee1.mv hag hle
  replace ee2 := ee2.mv hag hle
  replace e0 := e0.mv hag hle
  replace e1 := e1.mv hag hle
  refine va_ldcS hx hb hown V.1.x.2.2.2.1 dX4_written_11 ?_
  have ee4 := cl_cat (i := 1) V (by decide) (by decide)
  obtain ⟨hg, hF⟩ := dx_gd_some hF
  have k6 := of_decide_eq_true hg
  obtain ⟨r5, σ5, h5c, hF⟩ := dx_b2_some hF
  obtain ⟨hg, hF⟩ := dx_gd_some hF
  refine cl_cr (va_runV (As := [.ref (ad0 1)]) S (cm_J10_append l D dA _ A bb2 (ad0 1) (cl_n (cl_nw σ0 17 0) + 1) 1  σ3 _ _ ee2 ee4 h5c) (cwV 1 hts (lw_V q1242 q655 q656 q97 q657) rfl rfl rfl ⟨rfl, cd_J10_append⟩ ⟨Nat.le_of_ble_eq_true rfl, Nat.le_of_ble_eq_true rfl⟩) (cl_preV V [.ref (ad0 1)] ee2 k6 rfl (by decide)) rfl rfl hl.1 rfl (lv_room (Nat.le_of_ble_eq_true rfl)) dX4_written_13 ⟨Nat.le_of_ble_eq_true rfl, Nat.le_of_ble_eq_true rfl⟩) V (of_decide_eq_true hg) (fun bb5 ad _ _ hag hle ee5 V => ?_)
  replace ee1 := ee1.mv hag hle
  replace e0 := e0.mv hag hle
  replace e1 := e1.mv hag hle
  refine lv_iload_n hx hb dX4_written_16 rfl (lv_at hl 2 rfl) ?_
  obtain ⟨hg, hF⟩ := dx_gd_some hF
  have k8 := of_decide_eq_true hg
  obtain ⟨r7, σ7, h7c, hF⟩ := dx_b2_some hF
  obtain ⟨hg, hF⟩ := dx_gd_some hF
  refine cl_cr (va_runV (As := [.int p1]) S (cm_J10_append_3 l D dA _ A bb5 r5 p1 σ5 _ _ ee5 h7c) (cwV 1 hts (lw_V q1243 q1244 q1245 q97 q1246) rfl rfl rfl ⟨rfl, cd_J10_append_3⟩ ⟨Nat.le_of_ble_eq_true rfl, Nat.le_of_ble_eq_true rfl⟩) (cl_preV V [.int p1] ee5 k8 rfl (by decide)) rfl rfl hl.1 rfl (lv_room (Nat.le_of_ble_eq_true rfl)) dX4_written_17 ⟨Nat.le_of_ble_eq_true rfl, Nat.le_of_ble_eq_true rfl⟩) V (of_decide_eq_true hg) (fun bb7 ad _ _ hag hle ee7 V => ?_)
  replace ee1 := ee1.mv hag hle
  replace e0 := e0.mv hag hle
  replace e1 := e1.mv hag hle
  obtain ⟨hg, hF⟩ := dx_gd_some hF
  have k10 := of_decide_eq_true hg
  obtain ⟨r9, σ9, h9c, hF⟩ := dx_b2_some hF
  obtain ⟨hg, hF⟩ := dx_gd_some hF
  refine cl_cr (va_runV (As := []) S (cm_J10_toString l D dA _ A bb7 r7  σ7 _ _ ee7 h9c) (cwV 0 hts (lw_V q1268 q795 q796 q97 q797) rfl rfl rfl ⟨rfl, cd_J10_toString⟩ ⟨Nat.le_of_ble_eq_true rfl, Nat.le_of_ble_eq_true rfl⟩) (cl_preV V [] ee7 k10 rfl (by decide)) rfl rfl hl.1 rfl (lv_room (Nat.le_of_ble_eq_true rfl)) dX4_written_20 ⟨Nat.le_of_ble_eq_true rfl, Nat.le_of_ble_eq_true rfl⟩) V (of_decide_eq_true hg) (fun bb9 ad _ _ hag hle ee9 V => ?_)
  replace ee1 := ee1.mv hag hle
  replace e0 := e0.mv hag hle
  replace e1 := e1.mv hag hle
  obtain ⟨σ11, h11c, hF⟩ := dx_b1_some hF
  refine cl_cv (va_runI (As := [.ref bb9]) S (cm_J10_init_2 l D dA _ A bb1 bb9 (cl_n σ0 + 1) r9  σ9 _ ee1 ee9 h11c) (cwI 1 hts (lw_meth q1271) rfl rfl rfl (hts _ q97) (hts _ q1269) (hts _ q1270) rfl cd_J10_init_2 ⟨Nat.le_of_ble_eq_true rfl, Nat.le_of_ble_eq_true rfl⟩) (cl_preS V [.ref bb1, .ref bb9]) rfl rfl hl.1 rfl (lv_room (Nat.le_of_ble_eq_true rfl)) dX4_written_23 ⟨Nat.le_of_ble_eq_true rfl, Nat.le_of_ble_eq_true rfl⟩) V (fun ad _ _ hag hle V => ?_)
  replace ee1 := ee1.mv hag hle
  replace e0 := e0.mv hag hle
  replace e1 := e1.mv hag hle
  refine lv_astore_n (lv' := [(3, .ref bb1), (0, .ref a0), (1, .ref a1), (2, .int p1)]) hx hb dX4_written_26 rfl hl (by decide) rfl (fun ls hl => ?_)
  refine lv_iload_n hx hb dX4_written_27 rfl (lv_at hl 3 rfl) ?_
  refine lv_istore (lv' := [(4, .int p1), (3, .ref bb1), (0, .ref a0), (1, .ref a1), (2, .int p1)]) hx hb dX4_written_28 hl (by decide) rfl (fun ls hl => ?_)
  refine lv_iconst (v := 0) hx hb dX4_written_30 (by decide) ?_
  refine lv_istore (lv' := [(5, .int (0 : Int32)), (4, .int p1), (3, .ref bb1), (0, .ref a0), (1, .ref a1), (2, .int p1)]) hx hb dX4_written_31 hl (by decide) rfl (fun ls hl => ?_)
  refine W.widen (k := 9 + 11 * (11 - 11)) (n := 564 + 1160 * (11 - 11)) (by first | omega | (dsimp only; omega)) (by first | omega | (dsimp only; omega)) ?_
  exact hL33 (cl_n σ0 + 1) 11 p1 (0 : Int32) σ11 _ _ (by omega) _ _ _ hF e0 e1 ee1 V (lv_sub hl [3, 4, 2, 1, 0] rfl)
theorem cd_J9_charAt : yJ9_charAt.cls ≠ "java/lang/invoke/MethodHandle" ∧ yJ9_charAt.cls ≠ "java/lang/invoke/VarHandle" ∧ (parseMethodDescriptor yJ9_charAt.desc).map (fun d => d.parameters.length) = some 1 := by decide +kernel
set_option maxHeartbeats 4000000 in
set_option maxRecDepth 100000 in
theorem cm_J9_charAt (l : Launch) (D : va_G) (dA : Nat → ClassId) (ad0 : Nat → Nat) (A : Nat → Prop) (a0 : Nat) (o0 : Nat) (p0 : Int32) (σ0 : cl_S) (r : Int32) (e0 : cl_at ad0 σ0 a0 o0) (hF : cl_J9_charAt o0 σ0 p0 = some r) : cl_Ci l yJ9_charAt cJ9_charAt 5 .char ({ frames := 2, cells := 0, slots := 0, locals := 61 }) D dA ad0 A [.ref a0, .int p0] σ0 r σ0 := by
  refine cl_in RJ9 rfl (by decide) (Nat.le_of_ble_eq_true rfl) ?_
  intro p e s m below meth c ls S hr hlocks hini hv hl
  have hx := S.1
  have hb := S.2.1
  have hown := S.2.2.2.1
  have hts := S.2.2.2.2
  obtain ⟨hN, hK, hP, hD, hA, hZ⟩ := hv
  have V : cl_V D dA (ad0, cl_n σ0) ad0 A s.heap σ0 s s.heap [] := ⟨hN, hK, hP, hD, va_S.rf, hA, hZ, fun _ _ => rfl, Nat.le_refl _⟩
  obtain ⟨ad, V, e0⟩ : ∃ ad, cl_V D dA (ad0, cl_n σ0) ad A s.heap σ0 s s.heap [] ∧ cl_at ad σ0 a0 o0 := ⟨ad0, V, e0⟩
  replace hl : lv_has ls 5 [(0, .ref a0), (1, .int p0)] := hl
  unfold cl_J9_charAt at hF
  refine lv_aload_n hx hb dJ9_charAt_0 rfl (lv_at hl 0 rfl) ?_
  obtain ⟨hg, hF⟩ := dx_gd_some hF
  have k1 := of_decide_eq_true hg
  refine cl_gi S V e0 k1 rfl (by decide) in_J10 1 (by decide) rfl q641 rfl dJ9_charAt_1 ?_
  refine lv_istore_n (lv' := [(2, .int (cl_i σ0 o0 1)), (0, .ref a0), (1, .int p0)]) hx hb dJ9_charAt_4 rfl hl (by decide) rfl (fun ls hl => ?_)
  refine lv_aload_n hx hb dJ9_charAt_5 rfl (lv_at hl 1 rfl) ?_
  obtain ⟨hg, hF⟩ := dx_gd_some hF
  refine cl_gr S V e0 k1 rfl (by decide) in_J10 0 (by decide) rfl q640 rfl dJ9_charAt_6 (of_decide_eq_true hg) (fun bb2 ee2 => ?_)
  refine lv_astore_n (lv' := [(3, .ref bb2), (2, .int (cl_i σ0 o0 1)), (0, .ref a0), (1, .int p0)]) hx hb dJ9_charAt_9 rfl hl (by decide) rfl (fun ls hl => ?_)
  refine lv_aload_n hx hb dJ9_charAt_10 rfl (lv_at hl 2 rfl) ?_
  refine cl_gi S V e0 k1 rfl (by decide) in_J10 3 (by decide) rfl q643 rfl dJ9_charAt_11 ?_
  refine lv_aload_n hx hb dJ9_charAt_14 rfl (lv_at hl 0 rfl) ?_
  obtain ⟨hg, hF⟩ := dx_gd_some hF
  have k3 := of_decide_eq_true hg
  refine cl_lenS S V ee2 k3 dJ9_charAt_15 ?_
  refine lv_iload_n hx hb dJ9_charAt_16 rfl (lv_at hl 1 rfl) ?_
  refine lv_ishr hx hb dJ9_charAt_17 ?_
  refine va_mmin hx hb (by rw [hl.1]; exact S.2.2.1) hown (hts _ q1322) (hts _ q695) (hts _ q100) (hts _ q696) (Nat.le_of_ble_eq_true rfl) (Nat.le_of_ble_eq_true rfl) (Nat.le_of_ble_eq_true rfl) (Nat.le_of_ble_eq_true rfl) dJ9_charAt_18 ?_
  refine lv_topi (fun x4 ex4 => ?_)
  replace hF := dx_let_e ex4 hF
  refine lv_istore (lv' := [(4, .int x4), (3, .ref bb2), (2, .int (cl_i σ0 o0 1)), (0, .ref a0), (1, .int p0)]) hx hb dJ9_charAt_21 hl (by decide) rfl (fun ls hl => ?_)
  refine lv_iload_n hx hb dJ9_charAt_23 rfl (lv_at hl 4 rfl) ?_
  refine lv_iload hx hb dJ9_charAt_24 (lv_at hl 0 rfl) ?_
  obtain ⟨_, h5c, hF⟩ := dx_b1_some hF
  refine cl_cv (va_runS (As := [.int p0, .int x4]) S (cm_J4_checkIndex l D dA _ A   p0 x4 σ0   h5c) (va_cwS 2 hts (lw_S q1323 q789 q88 q790) rfl rfl rfl cd_J4_checkIndex ⟨Nat.le_of_ble_eq_true rfl, Nat.le_of_ble_eq_true rfl⟩) (cl_preS V [.int p0, .int x4]) rfl rfl hl.1 rfl (lv_room (Nat.le_of_ble_eq_true rfl)) dJ9_charAt_26 ⟨Nat.le_of_ble_eq_true rfl, Nat.le_of_ble_eq_true rfl⟩) V (fun ad _ _ hag hle V => ?_)
  replace e0 := e0.mv hag hle
  replace ee2 := ee2.mv hag hle
  refine lv_iload_n hx hb dJ9_charAt_29 rfl (lv_at hl 2 rfl) ?_
  refine lv_if_ne (tgt := 42) hx hb dJ9_charAt_30 (by decide) (fun hc => ?_) (fun hc => ?_)
  · replace hF := (if_neg hc).symm.trans hF
    cases hF
  · replace hF := (if_pos hc).symm.trans hF
    refine lv_aload_n hx hb dJ9_charAt_33 rfl (lv_at hl 1 rfl) ?_
    refine lv_iload_n hx hb dJ9_charAt_34 rfl (lv_at hl 4 rfl) ?_
    obtain ⟨hg, hF⟩ := dx_gd_some hF
    refine cl_ldbS S V ee2 k3 (dx_inb_in hg) dJ9_charAt_35 ?_
    refine lv_sipush (v := 255) hx hb dJ9_charAt_36 (by decide) ?_
    refine lv_iand hx hb dJ9_charAt_39 ?_
    refine lv_i2c hx hb dJ9_charAt_40 rfl ?_
    replace hF := Option.some.inj hF
    subst hF
    exact cl_ri S V hr hlocks (pk_nc _) dJ9_charAt_41
theorem cd_J10_charAt : yJ10_charAt.cls ≠ "java/lang/invoke/MethodHandle" ∧ yJ10_charAt.cls ≠ "java/lang/invoke/VarHandle" ∧ (parseMethodDescriptor yJ10_charAt.desc).map (fun d => d.parameters.length) = some 1 := by decide +kernel
set_option maxHeartbeats 4000000 in
set_option maxRecDepth 100000 in
theorem cm_J10_charAt (l : Launch) (D : va_G) (dA : Nat → ClassId) (ad0 : Nat → Nat) (A : Nat → Prop) (a0 : Nat) (o0 : Nat) (p0 : Int32) (σ0 : cl_S) (r : Int32) (e0 : cl_at ad0 σ0 a0 o0) (hF : cl_J10_charAt o0 σ0 p0 = some r) : cl_Ci l yJ10_charAt cJ10_charAt 2 .char ({ frames := 3, cells := 0, slots := 0, locals := 85 }) D dA ad0 A [.ref a0, .int p0] σ0 r σ0 := by
  refine cl_in RJ10 rfl (by decide) (Nat.le_of_ble_eq_true rfl) ?_
  intro p e s m below meth c ls S hr hlocks hini hv hl
  have hx := S.1
  have hb := S.2.1
  have hown := S.2.2.2.1
  have hts := S.2.2.2.2
  obtain ⟨hN, hK, hP, hD, hA, hZ⟩ := hv
  have V : cl_V D dA (ad0, cl_n σ0) ad0 A s.heap σ0 s s.heap [] := ⟨hN, hK, hP, hD, va_S.rf, hA, hZ, fun _ _ => rfl, Nat.le_refl _⟩
  obtain ⟨ad, V, e0⟩ : ∃ ad, cl_V D dA (ad0, cl_n σ0) ad A s.heap σ0 s s.heap [] ∧ cl_at ad σ0 a0 o0 := ⟨ad0, V, e0⟩
  replace hl : lv_has ls 2 [(0, .ref a0), (1, .int p0)] := hl
  unfold cl_J10_charAt at hF
  refine lv_aload_n hx hb dJ10_charAt_0 rfl (lv_at hl 0 rfl) ?_
  refine lv_iload_n hx hb dJ10_charAt_1 rfl (lv_at hl 1 rfl) ?_
  obtain ⟨hg, hF⟩ := dx_gd_some hF
  have k2 := of_decide_eq_true hg
  obtain ⟨r1, h1c, hF⟩ := dx_b1_some hF
  refine cl_ci (cl_runSU (n := 1) (V.2.1.1 17 _ rfl).2 (As := [.int p0]) S (cm_J9_charAt l D dA _ A a0 o0 p0 σ0 _ e0 h1c) rfl rfl q1319 q2064 q652 (Or.inl rfl) q1320 q96 q1321 rfl (by decide +kernel) ⟨Nat.le_of_ble_eq_true rfl, Nat.le_of_ble_eq_true rfl⟩ (cl_preV V [.int p0] e0 k2 rfl (by decide)) rfl rfl hl.1 rfl (lv_room (Nat.le_of_ble_eq_true rfl)) dJ10_charAt_2 ⟨Nat.le_of_ble_eq_true rfl, Nat.le_of_ble_eq_true rfl⟩) V (fun ad _ _ hag hle V => ?_)
  replace e0 := e0.mv hag hle
  obtain ⟨hnr, hF⟩ := dx_gd_some hF
  replace hnr := of_decide_eq_true hnr
  replace hF := Option.some.inj hF
  subst hF
  exact cl_ri S V hr hlocks hnr dJ10_charAt_5
theorem cd_X0_signOf : yX0_signOf.cls ≠ "java/lang/invoke/MethodHandle" ∧ yX0_signOf.cls ≠ "java/lang/invoke/VarHandle" ∧ (parseMethodDescriptor yX0_signOf.desc).map (fun d => d.parameters.length) = some 2 := by decide +kernel
set_option maxHeartbeats 4000000 in
set_option maxRecDepth 100000 in
theorem cm_X0_signOf (l : Launch) (D : va_G) (dA : Nat → ClassId) (ad0 : Nat → Nat) (A : Nat → Prop) (a0 : Nat) (o0 : Nat) (p1 : Int32) (σ0 : cl_S) (r : Int32) (e0 : cl_at ad0 σ0 a0 o0) (hF : cl_X0_signOf o0 σ0 p1 = some r) : cl_Ci l yX0_signOf cX0_signOf 2 .int ({ frames := 4, cells := 0, slots := 0, locals := 106 }) D dA ad0 A [.ref a0, .int p1] σ0 r σ0 := by
  refine cl_in RX0 rfl (by decide) (Nat.le_of_ble_eq_true rfl) ?_
  intro p e s m below meth c ls S hr hlocks hini hv hl
  have hx := S.1
  have hb := S.2.1
  have hown := S.2.2.2.1
  have hts := S.2.2.2.2
  obtain ⟨hN, hK, hP, hD, hA, hZ⟩ := hv
  have V : cl_V D dA (ad0, cl_n σ0) ad0 A s.heap σ0 s s.heap [] := ⟨hN, hK, hP, hD, va_S.rf, hA, hZ, fun _ _ => rfl, Nat.le_refl _⟩
  obtain ⟨ad, V, e0⟩ : ∃ ad, cl_V D dA (ad0, cl_n σ0) ad A s.heap σ0 s s.heap [] ∧ cl_at ad σ0 a0 o0 := ⟨ad0, V, e0⟩
  replace hl : lv_has ls 2 [(0, .ref a0), (1, .int p1)] := hl
  unfold cl_X0_signOf at hF
  refine lv_iload_n hx hb dX0_signOf_0 rfl (lv_at hl 1 rfl) ?_
  refine lv_iconst (v := (-1)) hx hb dX0_signOf_1 (by decide) ?_
  refine lv_icmp_ne (tgt := 14) hx hb dX0_signOf_2 (by decide) (fun hc => ?_) (fun hc => ?_)
  · replace hF := (if_neg hc).symm.trans hF
    refine lv_iload_n hx hb dX0_signOf_14 rfl (lv_at hl 1 rfl) ?_
    refine lv_aload_n hx hb dX0_signOf_15 rfl (lv_at hl 0 rfl) ?_
    obtain ⟨hg, hF⟩ := dx_gd_some hF
    have k2 := of_decide_eq_true hg
    obtain ⟨r1, h1c, hF⟩ := dx_b1_some hF
    refine cl_cFi (va_runF (V.2.1.1 17 _ rfl).2 (As := []) S (cm_J10_length l D dA _ A a0 o0  σ0 _ e0 h1c) (va_cwF 0 hts (lw_F q1287 q1295 q815 q97 q816) rfl rfl rfl (V.1.2.1 _ cf_StringBuilder_length) (by decide +kernel) ⟨Nat.le_of_ble_eq_true rfl, Nat.le_of_ble_eq_true rfl⟩) (cl_preV V [] e0 k2 rfl (by decide)) rfl rfl hl.1 rfl (lv_room (Nat.le_of_ble_eq_true rfl)) dX0_signOf_16 ⟨Nat.le_of_ble_eq_true rfl, Nat.le_of_ble_eq_true rfl⟩) V (fun ad _ _ hag hle V => ?_)
    replace e0 := e0.mv hag hle
    refine lv_icmp_ge (tgt := 34) hx hb dX0_signOf_21 (by decide) (fun hc => ?_) (fun hc => ?_)
    · replace hF := (if_pos hc).symm.trans hF
      refine lv_ldc hx hb hown (hts _ q1134) dX0_signOf_34 ?_
      replace hF := Option.some.inj hF
      subst hF
      exact cl_ri S V hr hlocks rfl dX0_signOf_36
    · replace hF := (if_neg hc).symm.trans hF
      refine lv_aload_n hx hb dX0_signOf_24 rfl (lv_at hl 0 rfl) ?_
      refine lv_iload_n hx hb dX0_signOf_25 rfl (lv_at hl 1 rfl) ?_
      obtain ⟨r3, h3c, hF⟩ := dx_b1_some hF
      refine cl_cFi (va_runF (V.2.1.1 17 _ rfl).2 (As := [.int p1]) S (cm_J10_charAt l D dA _ A a0 o0 p1 σ0 _ e0 h3c) (va_cwF 1 hts (lw_F q1299 q1314 q1316 q97 q1318) rfl rfl rfl (V.1.2.1 _ cf_StringBuilder_charAt) (by decide +kernel) ⟨Nat.le_of_ble_eq_true rfl, Nat.le_of_ble_eq_true rfl⟩) (cl_preV V [.int p1] e0 k2 rfl (by decide)) rfl rfl hl.1 rfl (lv_room (Nat.le_of_ble_eq_true rfl)) dX0_signOf_26 ⟨Nat.le_of_ble_eq_true rfl, Nat.le_of_ble_eq_true rfl⟩) V (fun ad _ _ hag hle V => ?_)
      replace e0 := e0.mv hag hle
      refine lv_goto (tgt := 36) hx hb dX0_signOf_31 (by decide) ?_
      replace hF := Option.some.inj hF
      subst hF
      exact cl_ri S V hr hlocks rfl dX0_signOf_36
  · replace hF := (if_pos hc).symm.trans hF
    refine lv_aload_n hx hb dX0_signOf_5 rfl (lv_at hl 0 rfl) ?_
    obtain ⟨hg, hF⟩ := dx_gd_some hF
    have k5 := of_decide_eq_true hg
    obtain ⟨r4, h4c, hF⟩ := dx_b1_some hF
    refine cl_cFi (va_runF (V.2.1.1 17 _ rfl).2 (As := []) S (cm_J10_length l D dA _ A a0 o0  σ0 _ e0 h4c) (va_cwF 0 hts (lw_F q1287 q1295 q815 q97 q816) rfl rfl rfl (V.1.2.1 _ cf_StringBuilder_length) (by decide +kernel) ⟨Nat.le_of_ble_eq_true rfl, Nat.le_of_ble_eq_true rfl⟩) (cl_preV V [] e0 k5 rfl (by decide)) rfl rfl hl.1 rfl (lv_room (Nat.le_of_ble_eq_true rfl)) dX0_signOf_6 ⟨Nat.le_of_ble_eq_true rfl, Nat.le_of_ble_eq_true rfl⟩) V (fun ad _ _ hag hle V => ?_)
    replace e0 := e0.mv hag hle
    refine lv_goto (tgt := 36) hx hb dX0_signOf_11 (by decide) ?_
    replace hF := Option.some.inj hF
    subst hF
    exact cl_ri S V hr hlocks rfl dX0_signOf_36
theorem cd_X0_written : yX0_written.cls ≠ "java/lang/invoke/MethodHandle" ∧ yX0_written.cls ≠ "java/lang/invoke/VarHandle" ∧ (parseMethodDescriptor yX0_written.desc).map (fun d => d.parameters.length) = some 4 := by decide +kernel
set_option maxHeartbeats 4000000 in
set_option maxRecDepth 100000 in
theorem cm_X0_written (l : Launch) (D : va_G) (dA : Nat → ClassId) (ad0 : Nat → Nat) (A : Nat → Prop) (a0 : Nat) (o0 : Nat) (p0 : Int32) (p1 : Int32) (p2 : Int32) (p3 : Int32) (σ0 : cl_S) (r : Int32) (σ' : cl_S) (e0 : cl_at ad0 σ0 a0 o0) (hF : cl_X0_written o0 σ0 p0 p1 p2 p3 = some (r, σ')) : cl_Ci l yX0_written cX0_written 5 .int ({ frames := 10, cells := 130, slots := 13324, locals := 227 }) D dA ad0 A [.ref a0, .int p0, .int p1, .int p2, .int p3] σ0 r σ' := by
  refine cl_in RX0 rfl (by decide) (Nat.le_of_ble_eq_true rfl) ?_
  intro p e s m below meth c ls S hr hlocks hini hv hl
  have hx := S.1
  have hb := S.2.1
  have hown := S.2.2.2.1
  have hts := S.2.2.2.2
  obtain ⟨hN, hK, hP, hD, hA, hZ⟩ := hv
  have V : cl_V D dA (ad0, cl_n σ0) ad0 A s.heap σ0 s s.heap [] := ⟨hN, hK, hP, hD, va_S.rf, hA, hZ, fun _ _ => rfl, Nat.le_refl _⟩
  obtain ⟨ad, V, e0⟩ : ∃ ad, cl_V D dA (ad0, cl_n σ0) ad A s.heap σ0 s s.heap [] ∧ cl_at ad σ0 a0 o0 := ⟨ad0, V, e0⟩
  replace hl : lv_has ls 5 [(0, .ref a0), (1, .int p0), (2, .int p1), (3, .int p2), (4, .int p3)] := hl
  unfold cl_X0_written at hF
  refine lv_aload_n hx hb dX0_written_0 rfl (lv_at hl 0 rfl) ?_
  refine lv_iload_n hx hb dX0_written_1 rfl (lv_at hl 1 rfl) ?_
  refine lv_iload_n hx hb dX0_written_2 rfl (lv_at hl 2 rfl) ?_
  refine lv_iload_n hx hb dX0_written_3 rfl (lv_at hl 3 rfl) ?_
  obtain ⟨hg, hF⟩ := dx_gd_some hF
  have k2 := of_decide_eq_true hg
  obtain ⟨r1, h1c, hF⟩ := dx_b1_some hF
  refine cl_ci (va_runV (As := [.int p0, .int p1, .int p2]) S (cm_X0_areSo l D dA _ A a0 o0 p0 p1 p2 σ0 _ e0 h1c) (cwV 3 hts (lw_V q1151 q1153 qs21 q77 q1154) rfl rfl rfl ⟨rfl, cd_X0_areSo⟩ ⟨Nat.le_of_ble_eq_true rfl, Nat.le_of_ble_eq_true rfl⟩) (cl_preV V [.int p0, .int p1, .int p2] e0 k2 rfl (by decide)) rfl rfl hl.1 rfl (lv_room (Nat.le_of_ble_eq_true rfl)) dX0_written_4 ⟨Nat.le_of_ble_eq_true rfl, Nat.le_of_ble_eq_true rfl⟩) V (fun ad _ _ hag hle V => ?_)
  replace e0 := e0.mv hag hle
  refine lv_if_eq (tgt := 16) hx hb dX0_written_7 (by decide) (fun hc => ?_) (fun hc => ?_)
  · replace hF := dx_ib_f (dx_bI_0 hc) hF
    refine lv_ldc hx hb hown (hts _ q406) dX0_written_16 ?_
    refine W.widen (k := 130) (n := 13324) (by first | omega | (dsimp only; omega)) (by first | omega | (dsimp only; omega)) ?_
    obtain ⟨hF1, hF2⟩ := dx_r2 hF
    subst hF1
    subst hF2
    exact cl_ri S V hr hlocks rfl dX0_written_18
  · replace hF := dx_ib_t (dx_bI_n hc) hF
    refine lv_iload hx hb dX0_written_10 (lv_at hl 4 rfl) ?_
    refine lv_iconst (v := (-1)) hx hb dX0_written_12 (by decide) ?_
    refine lv_icmp_ge (tgt := 19) hx hb dX0_written_13 (by decide) (fun hc => ?_) (fun hc => ?_)
    · replace hF := (if_pos hc).symm.trans hF
      refine lv_aload_n hx hb dX0_written_19 rfl (lv_at hl 0 rfl) ?_
      obtain ⟨hg, hF⟩ := dx_gd_some hF
      refine cl_gr S V e0 k2 rfl (by decide) in_X0 7 (by decide) rfl q275 rfl dX0_written_20 (of_decide_eq_true hg) (fun bb3 ee3 => ?_)
      refine lv_aload_n hx hb dX0_written_23 rfl (lv_at hl 0 rfl) ?_
      obtain ⟨hg, hF⟩ := dx_gd_some hF
      refine cl_gr S V e0 k2 rfl (by decide) in_X0 4 (by decide) rfl q272 rfl dX0_written_24 (of_decide_eq_true hg) (fun bb4 ee4 => ?_)
      refine lv_iload_n hx hb dX0_written_27 rfl (lv_at hl 1 rfl) ?_
      refine lv_iload_n hx hb dX0_written_28 rfl (lv_at hl 2 rfl) ?_
      refine lv_iload_n hx hb dX0_written_29 rfl (lv_at hl 3 rfl) ?_
      obtain ⟨hg, hF⟩ := dx_gd_some hF
      have k6 := of_decide_eq_true hg
      obtain ⟨r5, σ5, h5c, hF⟩ := dx_b2_some hF
      refine cl_ci (va_runV (As := [.ref bb4, .int p0, .int p1, .int p2]) S (cm_X4_find l D dA _ A bb3 bb4 (cl_r σ0 o0 7) (cl_r σ0 o0 4) p0 p1 p2 σ0 _ _ ee3 ee4 h5c) (cwV 4 hts (lw_V q1215 q1216 q1217 q81 q1218) rfl rfl rfl ⟨rfl, cd_X4_find⟩ ⟨Nat.le_of_ble_eq_true rfl, Nat.le_of_ble_eq_true rfl⟩) (cl_preV V [.ref bb4, .int p0, .int p1, .int p2] ee3 k6 rfl (by decide)) rfl rfl hl.1 rfl (lv_room (Nat.le_of_ble_eq_true rfl)) dX0_written_30 ⟨Nat.le_of_ble_eq_true rfl, Nat.le_of_ble_eq_true rfl⟩) V (fun ad _ _ hag hle V => ?_)
      replace e0 := e0.mv hag hle
      refine lv_if_eq (tgt := 56) hx hb dX0_written_33 (by decide) (fun hc => ?_) (fun hc => ?_)
      · replace hF := dx_ib_f (dx_bI_0 hc) hF
        refine lv_ldc hx hb hown (hts _ q1134) dX0_written_56 ?_
        refine W.widen (k := 130) (n := 13324) (by first | omega | (dsimp only; omega)) (by first | omega | (dsimp only; omega)) ?_
        obtain ⟨hF1, hF2⟩ := dx_r2 hF
        subst hF1
        subst hF2
        exact cl_ri S V hr hlocks rfl dX0_written_58
      · replace hF := dx_ib_t (dx_bI_n hc) hF
        refine lv_aload_n hx hb dX0_written_36 rfl (lv_at hl 0 rfl) ?_
        obtain ⟨hg, hF⟩ := dx_gd_some hF
        have k7 := of_decide_eq_true hg
        obtain ⟨hg, hF⟩ := dx_gd_some hF
        refine cl_gr S V e0 k7 rfl (by decide) in_X0 7 (by decide) rfl q275 rfl dX0_written_37 (of_decide_eq_true hg) (fun bb8 ee8 => ?_)
        refine lv_aload_n hx hb dX0_written_40 rfl (lv_at hl 0 rfl) ?_
        obtain ⟨hg, hF⟩ := dx_gd_some hF
        refine cl_gr S V e0 k7 rfl (by decide) in_X0 4 (by decide) rfl q272 rfl dX0_written_41 (of_decide_eq_true hg) (fun bb9 ee9 => ?_)
        refine lv_iload_n hx hb dX0_written_44 rfl (lv_at hl 1 rfl) ?_
        obtain ⟨hg, hF⟩ := dx_gd_some hF
        have k11 := of_decide_eq_true hg
        obtain ⟨r10, σ10, h10c, hF⟩ := dx_b2_some hF
        obtain ⟨hg, hF⟩ := dx_gd_some hF
        refine cl_cr (va_runV (As := [.ref bb9, .int p0]) S (cm_X4_written l D dA _ A bb8 bb9 (cl_r σ5 o0 7) (cl_r σ5 o0 4) p0 σ5 _ _ ee8 ee9 h10c) (cwV 2 hts (lw_V q1235 q1236 q1237 q81 q1238) rfl rfl rfl ⟨rfl, cd_X4_written⟩ ⟨Nat.le_of_ble_eq_true rfl, Nat.le_of_ble_eq_true rfl⟩) (cl_preV V [.ref bb9, .int p0] ee8 k11 rfl (by decide)) rfl rfl hl.1 rfl (lv_room (Nat.le_of_ble_eq_true rfl)) dX0_written_45 ⟨Nat.le_of_ble_eq_true rfl, Nat.le_of_ble_eq_true rfl⟩) V (of_decide_eq_true hg) (fun bb10 ad _ _ hag hle ee10 V => ?_)
        replace e0 := e0.mv hag hle
        refine lv_iload hx hb dX0_written_48 (lv_at hl 4 rfl) ?_
        obtain ⟨r12, h12c, hF⟩ := dx_b1_some hF
        refine cl_ci (va_runS (As := [.ref bb10, .int p3]) S (cm_X0_signOf l D dA _ A bb10 r10 p3 σ10 _ ee10 h12c) (va_cwS 2 hts (lw_S q1283 q1284 q77 q1285) rfl rfl rfl cd_X0_signOf ⟨Nat.le_of_ble_eq_true rfl, Nat.le_of_ble_eq_true rfl⟩) (cl_preS V [.ref bb10, .int p3]) rfl rfl hl.1 rfl (lv_room (Nat.le_of_ble_eq_true rfl)) dX0_written_50 ⟨Nat.le_of_ble_eq_true rfl, Nat.le_of_ble_eq_true rfl⟩) V (fun ad _ _ hag hle V => ?_)
        replace e0 := e0.mv hag hle
        refine lv_goto (tgt := 58) hx hb dX0_written_53 (by decide) ?_
        refine W.widen (k := 130) (n := 13324) (by first | omega | (dsimp only; omega)) (by first | omega | (dsimp only; omega)) ?_
        obtain ⟨hF1, hF2⟩ := dx_r2 hF
        subst hF1
        subst hF2
        exact cl_ri S V hr hlocks rfl dX0_written_58
    · replace hF := (if_neg hc).symm.trans hF
      refine lv_ldc hx hb hown (hts _ q406) dX0_written_16 ?_
      refine W.widen (k := 130) (n := 13324) (by first | omega | (dsimp only; omega)) (by first | omega | (dsimp only; omega)) ?_
      obtain ⟨hF1, hF2⟩ := dx_r2 hF
      subst hF1
      subst hF2
      exact cl_ri S V hr hlocks rfl dX0_written_18
