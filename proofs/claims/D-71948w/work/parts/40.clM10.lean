/-! the class side read back and walked (printed by gen/clmain.py) -/
theorem cd_J9_init : yJ9_init.cls ≠ "java/lang/invoke/MethodHandle" ∧ yJ9_init.cls ≠ "java/lang/invoke/VarHandle" ∧ (parseMethodDescriptor yJ9_init.desc).map (fun d => d.parameters.length) = some 1 := by decide +kernel
set_option maxHeartbeats 4000000 in
set_option maxRecDepth 100000 in
theorem cm_J9_init (l : Launch) (D : va_G) (dA : Nat → ClassId) (ad0 : Nat → Nat) (A : Nat → Prop) (a0 : Nat) (o0 : Nat) (p0 : Int32) (σ0 : cl_S) (σ' : cl_S) (e0 : cl_at ad0 σ0 a0 o0) (hF : cl_J9_init o0 σ0 p0 = some σ') : cl_Cv l yJ9_init cJ9_init 2 ({ frames := 1, cells := 1, slots := 16, locals := 20 }) D dA ad0 A [.ref a0, .int p0] σ0 σ' := by
  refine cl_in RJ9 rfl (by decide) (Nat.le_of_ble_eq_true rfl) ?_
  intro p e s m below meth c ls S hr hlocks hini hv hl
  have hx := S.1
  have hb := S.2.1
  have hown := S.2.2.2.1
  have hts := S.2.2.2.2
  obtain ⟨hN, hK, hP, hD, hA, hZ⟩ := hv
  have V : cl_V D dA (ad0, cl_n σ0) ad0 A s.heap σ0 s s.heap [] := ⟨hN, hK, hP, hD, va_S.rf, hA, hZ, fun _ _ => rfl, Nat.le_refl _⟩
  obtain ⟨ad, V, e0⟩ : ∃ ad, cl_V D dA (ad0, cl_n σ0) ad A s.heap σ0 s s.heap [] ∧ cl_at ad σ0 a0 o0 := ⟨ad0, V, e0⟩
  replace hl : lv_has ls 2 [(0, .ref a0), (1, .int p0)] := hl
  unfold cl_J9_init at hF
  refine lv_aload_n hx hb dJ9_init_0 rfl (lv_at hl 0 rfl) ?_
  refine W.objInit hx hb hown (hts _ q625) (hts _ q123) (hts _ q124) rfl (by rw [S.2.2.1]; exact hl.1) rfl dJ9_init_1 (Nat.le_of_ble_eq_true rfl) (Nat.le_of_ble_eq_true rfl) ?_
  refine va_gets hx hb V.1.x.2.2.1.1 V.2.2.2.2.1 hown (hts _ q626) (fun _ h => h) dJ9_init_4 ?_
  refine lv_if_eq (tgt := 25) hx hb dJ9_init_7 (by first | decide | (dsimp only [F0]; decide)) (fun hc => ?_) (fun hc => ?_)
  · exact absurd hc (by decide)
  · refine lv_aload_n hx hb dJ9_init_10 rfl (lv_at hl 0 rfl) ?_
    refine lv_iload_n hx hb dJ9_init_11 rfl (lv_at hl 1 rfl) ?_
    obtain ⟨hg, hF⟩ := dx_gd_some hF
    replace hg := of_decide_eq_true hg
    refine cl_newaM 1 21 16 (atype := .byte) S V (by decide) (by decide) (by decide) rfl rfl (fun _ _ h => h) q206 rfl hg (Nat.le_of_ble_eq_true rfl) (by decide) (Nat.le_of_ble_eq_true rfl) (Nat.le_of_ble_eq_true rfl) dJ9_init_12 (fun bb1 ad _ hag ee1 V => ?_)
    replace e0 := cl_at.nw 21 p0.toNatClampNeg e0 hag
    have k1 : cl_k (cl_nw σ0 21 p0.toNatClampNeg) (cl_n σ0 + 1) = 21 := cl_k_nw
    obtain ⟨hg, hF⟩ := dx_gd_some hF
    have k2 := of_decide_eq_true hg
    refine cl_pr S V e0 k2 rfl (by decide) in_J10 tyJ10 tyJ10_ok nmJ10 0 (by decide) rfl q640 rfl rfl ee1 rfl rfl dJ9_init_14 (fun _ _ V => ?_)
    obtain ⟨σ3, eσ3⟩ : ∃ x, x = (cl_wr (cl_nw σ0 21 p0.toNatClampNeg) o0 0 (cl_n σ0 + 1)) := ⟨_, rfl⟩
    rw [← eσ3] at V
    replace hF := dx_let_e eσ3 hF
    replace e0 : cl_at ad σ3 a0 o0 := by rw [eσ3]; exact e0
    replace k1 : cl_k σ3 (cl_n σ0 + 1) = 21 := by rw [eσ3]; exact k1
    replace k2 : cl_k σ3 o0 = 17 := by rw [eσ3]; exact k2
    refine lv_aload_n hx hb dJ9_init_17 rfl (lv_at hl 0 rfl) ?_
    refine lv_iconst (v := 0) hx hb dJ9_init_18 (by decide) ?_
    refine cl_piB S V e0 k2 rfl (by decide) in_J10 tyJ10 tyJ10_ok nmJ10 1 (by decide) rfl q641 rfl rfl rfl rfl dJ9_init_19 (fun _ _ V => ?_)
    refine lv_goto (tgt := 38) hx hb dJ9_init_22 (by first | decide | (dsimp only [F0]; decide)) ?_
    refine W.widen (k := 1) (n := 16) (by first | omega | (dsimp only; omega)) (by first | omega | (dsimp only; omega)) ?_
    replace hF := Option.some.inj hF
    subst hF
    exact cl_rv S V hr hlocks dJ9_init_38
theorem cd_J10_init : yJ10_init.cls ≠ "java/lang/invoke/MethodHandle" ∧ yJ10_init.cls ≠ "java/lang/invoke/VarHandle" ∧ (parseMethodDescriptor yJ10_init.desc).map (fun d => d.parameters.length) = some 0 := by decide +kernel
set_option maxHeartbeats 4000000 in
set_option maxRecDepth 100000 in
theorem cm_J10_init (l : Launch) (D : va_G) (dA : Nat → ClassId) (ad0 : Nat → Nat) (A : Nat → Prop) (a0 : Nat) (o0 : Nat)  (σ0 : cl_S) (σ' : cl_S) (e0 : cl_at ad0 σ0 a0 o0) (hF : cl_J10_init o0 σ0 = some σ') : cl_Cv l yJ10_init cJ10_init 1 ({ frames := 2, cells := 1, slots := 16, locals := 41 }) D dA ad0 A [.ref a0] σ0 σ' := by
  refine cl_in RJ10 rfl (by decide) (Nat.le_of_ble_eq_true rfl) ?_
  intro p e s m below meth c ls S hr hlocks hini hv hl
  have hx := S.1
  have hb := S.2.1
  have hown := S.2.2.2.1
  have hts := S.2.2.2.2
  obtain ⟨hN, hK, hP, hD, hA, hZ⟩ := hv
  have V : cl_V D dA (ad0, cl_n σ0) ad0 A s.heap σ0 s s.heap [] := ⟨hN, hK, hP, hD, va_S.rf, hA, hZ, fun _ _ => rfl, Nat.le_refl _⟩
  obtain ⟨ad, V, e0⟩ : ∃ ad, cl_V D dA (ad0, cl_n σ0) ad A s.heap σ0 s s.heap [] ∧ cl_at ad σ0 a0 o0 := ⟨ad0, V, e0⟩
  replace hl : lv_has ls 1 [(0, .ref a0)] := hl
  unfold cl_J10_init at hF
  refine lv_aload_n hx hb dJ10_init_0 rfl (lv_at hl 0 rfl) ?_
  refine lv_bipush (v := 16) hx hb dJ10_init_1 (by decide) ?_
  obtain ⟨σ1, h1c, hF⟩ := dx_b1_some hF
  refine cl_cv (va_runI (As := [.int (16 : Int32)]) S (cm_J9_init l D dA _ A a0 o0 (16 : Int32) σ0 _ e0 h1c) (cwI 1 hts (lw_meth q624) rfl rfl rfl (hts _ q96) (hts _ q622) (hts _ q623) rfl cd_J9_init ⟨Nat.le_of_ble_eq_true rfl, Nat.le_of_ble_eq_true rfl⟩) (cl_preS V [.ref a0, .int (16 : Int32)]) rfl rfl hl.1 rfl (lv_room (Nat.le_of_ble_eq_true rfl)) dJ10_init_3 ⟨Nat.le_of_ble_eq_true rfl, Nat.le_of_ble_eq_true rfl⟩) V (fun ad _ _ hag hle V => ?_)
  replace e0 := e0.mv hag hle
  refine W.widen (k := 1) (n := 16) (by first | omega | (dsimp only; omega)) (by first | omega | (dsimp only; omega)) ?_
  replace hF := Option.some.inj hF
  subst hF
  exact cl_rv S V hr hlocks dJ10_init_6
theorem cd_J4_coder : yJ4_coder.cls ≠ "java/lang/invoke/MethodHandle" ∧ yJ4_coder.cls ≠ "java/lang/invoke/VarHandle" ∧ (parseMethodDescriptor yJ4_coder.desc).map (fun d => d.parameters.length) = some 0 := by decide +kernel
set_option maxHeartbeats 4000000 in
set_option maxRecDepth 100000 in
theorem cm_J4_coder (l : Launch) (D : va_G) (dA : Nat → ClassId) (ad0 : Nat → Nat) (A : Nat → Prop) (a0 : Nat) (o0 : Nat)  (σ0 : cl_S) (r : Int32) (e0 : cl_at ad0 σ0 a0 o0) (hF : cl_J4_coder o0 σ0 = some r) : cl_Ci l yJ4_coder cJ4_coder 1 .byte ({ frames := 0, cells := 0, slots := 0, locals := 0 }) D dA ad0 A [.ref a0] σ0 r σ0 := by
  refine cl_in RJ4 rfl (by decide) (Nat.le_of_ble_eq_true rfl) ?_
  intro p e s m below meth c ls S hr hlocks hini hv hl
  have hx := S.1
  have hb := S.2.1
  have hown := S.2.2.2.1
  have hts := S.2.2.2.2
  obtain ⟨hN, hK, hP, hD, hA, hZ⟩ := hv
  have V : cl_V D dA (ad0, cl_n σ0) ad0 A s.heap σ0 s s.heap [] := ⟨hN, hK, hP, hD, va_S.rf, hA, hZ, fun _ _ => rfl, Nat.le_refl _⟩
  obtain ⟨ad, V, e0⟩ : ∃ ad, cl_V D dA (ad0, cl_n σ0) ad A s.heap σ0 s s.heap [] ∧ cl_at ad σ0 a0 o0 := ⟨ad0, V, e0⟩
  replace hl : lv_has ls 1 [(0, .ref a0)] := hl
  unfold cl_J4_coder at hF
  refine va_gets hx hb V.1.x.2.2.1.1 V.2.2.2.2.1 hown (hts _ q737) (fun _ h => h) dJ4_coder_0 ?_
  refine lv_if_eq (tgt := 13) hx hb dJ4_coder_3 (by decide) (fun hc => ?_) (fun hc => ?_)
  · exact absurd hc (by decide)
  · refine lv_aload_n hx hb dJ4_coder_6 rfl (lv_at hl 0 rfl) ?_
    obtain ⟨hg, hF⟩ := dx_gd_some hF
    have k1 := of_decide_eq_true hg
    refine cl_giS S V e0 k1 q843 dJ4_coder_7 ?_
    refine lv_goto (tgt := 14) hx hb dJ4_coder_10 (by decide) ?_
    obtain ⟨hnr, hF⟩ := dx_gd_some hF
    replace hnr := of_decide_eq_true hnr
    replace hF := Option.some.inj hF
    subst hF
    exact cl_ri S V hr hlocks hnr dJ4_coder_14
theorem cd_J4_length : yJ4_length.cls ≠ "java/lang/invoke/MethodHandle" ∧ yJ4_length.cls ≠ "java/lang/invoke/VarHandle" ∧ (parseMethodDescriptor yJ4_length.desc).map (fun d => d.parameters.length) = some 0 := by decide +kernel
set_option maxHeartbeats 4000000 in
set_option maxRecDepth 100000 in
theorem cm_J4_length (l : Launch) (D : va_G) (dA : Nat → ClassId) (ad0 : Nat → Nat) (A : Nat → Prop) (a0 : Nat) (o0 : Nat)  (σ0 : cl_S) (r : Int32) (e0 : cl_at ad0 σ0 a0 o0) (hF : cl_J4_length o0 σ0 = some r) : cl_Ci l yJ4_length cJ4_length 1 .int ({ frames := 1, cells := 0, slots := 0, locals := 20 }) D dA ad0 A [.ref a0] σ0 r σ0 := by
  refine cl_in RJ4 rfl (by decide) (Nat.le_of_ble_eq_true rfl) ?_
  intro p e s m below meth c ls S hr hlocks hini hv hl
  have hx := S.1
  have hb := S.2.1
  have hown := S.2.2.2.1
  have hts := S.2.2.2.2
  obtain ⟨hN, hK, hP, hD, hA, hZ⟩ := hv
  have V : cl_V D dA (ad0, cl_n σ0) ad0 A s.heap σ0 s s.heap [] := ⟨hN, hK, hP, hD, va_S.rf, hA, hZ, fun _ _ => rfl, Nat.le_refl _⟩
  obtain ⟨ad, V, e0⟩ : ∃ ad, cl_V D dA (ad0, cl_n σ0) ad A s.heap σ0 s s.heap [] ∧ cl_at ad σ0 a0 o0 := ⟨ad0, V, e0⟩
  replace hl : lv_has ls 1 [(0, .ref a0)] := hl
  unfold cl_J4_length at hF
  refine lv_aload_n hx hb dJ4_length_0 rfl (lv_at hl 0 rfl) ?_
  obtain ⟨hg, hF⟩ := dx_gd_some hF
  have k1 := of_decide_eq_true hg
  obtain ⟨hg, hF⟩ := dx_gd_some hF
  refine cl_grS S V e0 k1 q842 dJ4_length_1 (of_decide_eq_true hg) (fun bb2 ee2 => ?_)
  obtain ⟨hg, hF⟩ := dx_gd_some hF
  have k3 := of_decide_eq_true hg
  refine cl_lenS S V ee2 k3 dJ4_length_4 ?_
  refine lv_aload_n hx hb dJ4_length_5 rfl (lv_at hl 0 rfl) ?_
  obtain ⟨r4, h4c, hF⟩ := dx_b1_some hF
  refine cl_ci (va_runV (As := []) S (cm_J4_coder l D dA _ A a0 o0  σ0 _ e0 h4c) (cwV 0 hts (lw_V q733 q734 q735 q88 q736) rfl rfl rfl ⟨rfl, cd_J4_coder⟩ ⟨Nat.le_of_ble_eq_true rfl, Nat.le_of_ble_eq_true rfl⟩) (cl_preVS V [] e0 k1) rfl rfl hl.1 rfl (lv_room (Nat.le_of_ble_eq_true rfl)) dJ4_length_6 ⟨Nat.le_of_ble_eq_true rfl, Nat.le_of_ble_eq_true rfl⟩) V (fun ad _ _ hag hle V => ?_)
  replace e0 := e0.mv hag hle
  refine lv_ishr hx hb dJ4_length_9 ?_
  replace hF := Option.some.inj hF
  subst hF
  exact cl_ri S V hr hlocks rfl dJ4_length_10
theorem cd_J12_newLength : yJ12_newLength.cls ≠ "java/lang/invoke/MethodHandle" ∧ yJ12_newLength.cls ≠ "java/lang/invoke/VarHandle" ∧ (parseMethodDescriptor yJ12_newLength.desc).map (fun d => d.parameters.length) = some 3 := by decide +kernel
set_option maxHeartbeats 4000000 in
set_option maxRecDepth 100000 in
theorem cm_J12_newLength (l : Launch) (p0 : Int32) (p1 : Int32) (p2 : Int32) (r : Int32) (hF : cl_J12_newLength p0 p1 p2 = some r) : dx_Pi l yJ12_newLength cJ12_newLength 4 .int ({ frames := 1, cells := 0, slots := 0, locals := 21 }) [.int p0, .int p1, .int p2] r := by
  refine dx_in RJ12 rfl (by decide) (Nat.le_of_ble_eq_true rfl) ?_
  intro p e s m below meth c ls S hr hlocks hv hl
  have hx := S.1
  have hb := S.2.1
  have hown := S.2.2.2.1
  have hts := S.2.2.2.2
  replace hl : lv_has ls 4 [(0, .int p0), (1, .int p1), (2, .int p2)] := hl
  unfold cl_J12_newLength at hF
  refine lv_iload_n hx hb dJ12_newLength_0 rfl (lv_at hl 0 rfl) ?_
  refine lv_iload_n hx hb dJ12_newLength_1 rfl (lv_at hl 1 rfl) ?_
  refine lv_iload_n hx hb dJ12_newLength_2 rfl (lv_at hl 2 rfl) ?_
  refine va_mmax hx hb (by rw [hl.1]; exact S.2.2.1) hown (hts _ q676) (hts _ q677) (hts _ q100) (hts _ q678) (Nat.le_of_ble_eq_true rfl) (Nat.le_of_ble_eq_true rfl) (Nat.zero_le _) (Nat.zero_le _) dJ12_newLength_3 ?_
  refine lv_iadd hx hb dJ12_newLength_6 ?_
  refine lv_istore_n (lv' := [(3, .int (p0 + (if p1 < p2 then p2 else p1))), (0, .int p0), (1, .int p1), (2, .int p2)]) hx hb dJ12_newLength_7 rfl hl (by decide) rfl (fun ls hl => ?_)
  refine lv_iconst (v := 0) hx hb dJ12_newLength_8 (by decide) ?_
  refine lv_iload_n hx hb dJ12_newLength_9 rfl (lv_at hl 0 rfl) ?_
  refine lv_icmp_ge (tgt := 21) hx hb dJ12_newLength_10 (by decide) (fun hc => ?_) (fun hc => ?_)
  · replace hF := (if_pos hc).symm.trans hF
    cases hF
  · replace hF := (if_neg hc).symm.trans hF
    refine lv_iload_n hx hb dJ12_newLength_13 rfl (lv_at hl 0 rfl) ?_
    refine lv_ldc hx hb hown (hts _ q679) dJ12_newLength_14 ?_
    refine lv_icmp_gt (tgt := 21) hx hb dJ12_newLength_16 (by decide) (fun hc => ?_) (fun hc => ?_)
    · replace hF := (if_pos hc).symm.trans hF
      cases hF
    · replace hF := (if_neg hc).symm.trans hF
      refine lv_iload_n hx hb dJ12_newLength_19 rfl (lv_at hl 0 rfl) ?_
      replace hF := Option.some.inj hF
      subst hF
      exact dx_rPi S hr hlocks rfl dJ12_newLength_20
theorem cd_J9_newCapacity : yJ9_newCapacity.cls ≠ "java/lang/invoke/MethodHandle" ∧ yJ9_newCapacity.cls ≠ "java/lang/invoke/VarHandle" ∧ (parseMethodDescriptor yJ9_newCapacity.desc).map (fun d => d.parameters.length) = some 1 := by decide +kernel
set_option maxHeartbeats 4000000 in
set_option maxRecDepth 100000 in
theorem cm_J9_newCapacity (l : Launch) (D : va_G) (dA : Nat → ClassId) (ad0 : Nat → Nat) (A : Nat → Prop) (a0 : Nat) (o0 : Nat) (p0 : Int32) (σ0 : cl_S) (r : Int32) (σ' : cl_S) (e0 : cl_at ad0 σ0 a0 o0) (hF : cl_J9_newCapacity o0 σ0 p0 = some (r, σ')) : cl_Ci l yJ9_newCapacity cJ9_newCapacity 6 .int ({ frames := 2, cells := 0, slots := 0, locals := 44 }) D dA ad0 A [.ref a0, .int p0] σ0 r σ' := by
  refine cl_in RJ9 rfl (by decide) (Nat.le_of_ble_eq_true rfl) ?_
  intro p e s m below meth c ls S hr hlocks hini hv hl
  have hx := S.1
  have hb := S.2.1
  have hown := S.2.2.2.1
  have hts := S.2.2.2.2
  obtain ⟨hN, hK, hP, hD, hA, hZ⟩ := hv
  have V : cl_V D dA (ad0, cl_n σ0) ad0 A s.heap σ0 s s.heap [] := ⟨hN, hK, hP, hD, va_S.rf, hA, hZ, fun _ _ => rfl, Nat.le_refl _⟩
  obtain ⟨ad, V, e0⟩ : ∃ ad, cl_V D dA (ad0, cl_n σ0) ad A s.heap σ0 s s.heap [] ∧ cl_at ad σ0 a0 o0 := ⟨ad0, V, e0⟩
  replace hl : lv_has ls 6 [(0, .ref a0), (1, .int p0)] := hl
  unfold cl_J9_newCapacity at hF
  refine lv_aload_n hx hb dJ9_newCapacity_0 rfl (lv_at hl 0 rfl) ?_
  obtain ⟨hg, hF⟩ := dx_gd_some hF
  have k1 := of_decide_eq_true hg
  obtain ⟨hg, hF⟩ := dx_gd_some hF
  refine cl_gr S V e0 k1 rfl (by decide) in_J10 0 (by decide) rfl q640 rfl dJ9_newCapacity_1 (of_decide_eq_true hg) (fun bb2 ee2 => ?_)
  obtain ⟨hg, hF⟩ := dx_gd_some hF
  have k3 := of_decide_eq_true hg
  refine cl_lenS S V ee2 k3 dJ9_newCapacity_4 ?_
  refine lv_istore_n (lv' := [(2, .int (Int32.ofNat (cl_l σ0 (cl_r σ0 o0 0)))), (0, .ref a0), (1, .int p0)]) hx hb dJ9_newCapacity_5 rfl hl (by decide) rfl (fun ls hl => ?_)
  refine lv_iload_n hx hb dJ9_newCapacity_6 rfl (lv_at hl 2 rfl) ?_
  refine lv_aload_n hx hb dJ9_newCapacity_7 rfl (lv_at hl 1 rfl) ?_
  refine cl_gi S V e0 k1 rfl (by decide) in_J10 1 (by decide) rfl q641 rfl dJ9_newCapacity_8 ?_
  refine lv_ishl hx hb dJ9_newCapacity_11 ?_
  refine lv_istore_n (lv' := [(3, .int (p0 <<< ((cl_i σ0 o0 1) &&& 31))), (2, .int (Int32.ofNat (cl_l σ0 (cl_r σ0 o0 0)))), (0, .ref a0), (1, .int p0)]) hx hb dJ9_newCapacity_12 rfl hl (by decide) rfl (fun ls hl => ?_)
  refine lv_iload_n hx hb dJ9_newCapacity_13 rfl (lv_at hl 0 rfl) ?_
  refine lv_iload_n hx hb dJ9_newCapacity_14 rfl (lv_at hl 1 rfl) ?_
  refine lv_isub hx hb dJ9_newCapacity_15 ?_
  refine lv_topi (fun x4 ex4 => ?_)
  replace hF := dx_let_e ex4 hF
  refine lv_istore (lv' := [(4, .int x4), (3, .int (p0 <<< ((cl_i σ0 o0 1) &&& 31))), (2, .int (Int32.ofNat (cl_l σ0 (cl_r σ0 o0 0)))), (0, .ref a0), (1, .int p0)]) hx hb dJ9_newCapacity_16 hl (by decide) rfl (fun ls hl => ?_)
  refine lv_iload_n hx hb dJ9_newCapacity_18 rfl (lv_at hl 2 rfl) ?_
  refine lv_iload hx hb dJ9_newCapacity_19 (lv_at hl 0 rfl) ?_
  refine lv_iload_n hx hb dJ9_newCapacity_21 rfl (lv_at hl 2 rfl) ?_
  refine lv_iconst (v := 2) hx hb dJ9_newCapacity_22 (by decide) ?_
  refine lv_aload_n hx hb dJ9_newCapacity_23 rfl (lv_at hl 3 rfl) ?_
  refine cl_gi S V e0 k1 rfl (by decide) in_J10 1 (by decide) rfl q641 rfl dJ9_newCapacity_24 ?_
  refine lv_ishl hx hb dJ9_newCapacity_27 ?_
  refine lv_iadd hx hb dJ9_newCapacity_28 ?_
  obtain ⟨r5, h5c, hF⟩ := dx_b1_some hF
  refine dx_cPi S [.int (Int32.ofNat (cl_l σ0 (cl_r σ0 o0 0))), .int x4, .int ((Int32.ofNat (cl_l σ0 (cl_r σ0 o0 0))) + ((2 : Int32) <<< ((cl_i σ0 o0 1) &&& 31)))] (cm_J12_newLength l (Int32.ofNat (cl_l σ0 (cl_r σ0 o0 0))) x4 ((Int32.ofNat (cl_l σ0 (cl_r σ0 o0 0))) + ((2 : Int32) <<< ((cl_i σ0 o0 1) &&& 31))) _ h5c) (va_cwS 3 hts (lw_S q673 q674 q99 q675) rfl rfl rfl cd_J12_newLength ⟨Nat.le_of_ble_eq_true rfl, Nat.le_of_ble_eq_true rfl⟩) rfl rfl hl.1 (Nat.le_of_ble_eq_true rfl) dJ9_newCapacity_29 ⟨Nat.le_of_ble_eq_true rfl, Nat.le_of_ble_eq_true rfl⟩ ?_
  refine lv_istore (lv' := [(5, .int r5), (4, .int x4), (3, .int (p0 <<< ((cl_i σ0 o0 1) &&& 31))), (2, .int (Int32.ofNat (cl_l σ0 (cl_r σ0 o0 0)))), (0, .ref a0), (1, .int p0)]) hx hb dJ9_newCapacity_32 hl (by decide) rfl (fun ls hl => ?_)
  refine lv_iload hx hb dJ9_newCapacity_34 (lv_at hl 0 rfl) ?_
  refine lv_ldc hx hb hown (hts _ q683) dJ9_newCapacity_36 ?_
  refine lv_icmp_ne (tgt := 51) hx hb dJ9_newCapacity_38 (by decide) (fun hc => ?_) (fun hc => ?_)
  · replace hF := (if_neg hc).symm.trans hF
    refine lv_iload hx hb dJ9_newCapacity_51 (lv_at hl 0 rfl) ?_
    refine lv_aload_n hx hb dJ9_newCapacity_53 rfl (lv_at hl 4 rfl) ?_
    refine cl_gi S V e0 k1 rfl (by decide) in_J10 1 (by decide) rfl q641 rfl dJ9_newCapacity_54 ?_
    refine lv_ishr hx hb dJ9_newCapacity_57 ?_
    obtain ⟨hF1, hF2⟩ := dx_r2 hF
    subst hF1
    subst hF2
    exact cl_ri S V hr hlocks rfl dJ9_newCapacity_58
  · replace hF := (if_pos hc).symm.trans hF
    cases hF
theorem cd_J14_copyOf : yJ14_copyOf.cls ≠ "java/lang/invoke/MethodHandle" ∧ yJ14_copyOf.cls ≠ "java/lang/invoke/VarHandle" ∧ (parseMethodDescriptor yJ14_copyOf.desc).map (fun d => d.parameters.length) = some 2 := by decide +kernel
set_option maxHeartbeats 4000000 in
set_option maxRecDepth 100000 in
theorem cm_J14_copyOf (l : Launch) (D : va_G) (dA : Nat → ClassId) (ad0 : Nat → Nat) (A : Nat → Prop) (a0 : Nat) (o0 : Nat) (p1 : Int32) (σ0 : cl_S) (r : Nat) (σ' : cl_S) (e0 : cl_at ad0 σ0 a0 o0) (hF : cl_J14_copyOf o0 σ0 p1 = some (r, σ')) : cl_Cr l yJ14_copyOf cJ14_copyOf 3 (.array .byte) ({ frames := 1, cells := 1, slots := 160, locals := 26 }) D dA ad0 A [.ref a0, .int p1] σ0 r σ' := by
  refine cl_in RJ14 rfl (by decide) (Nat.le_of_ble_eq_true rfl) ?_
  intro p e s m below meth c ls S hr hlocks hini hv hl
  have hx := S.1
  have hb := S.2.1
  have hown := S.2.2.2.1
  have hts := S.2.2.2.2
  obtain ⟨hN, hK, hP, hD, hA, hZ⟩ := hv
  have V : cl_V D dA (ad0, cl_n σ0) ad0 A s.heap σ0 s s.heap [] := ⟨hN, hK, hP, hD, va_S.rf, hA, hZ, fun _ _ => rfl, Nat.le_refl _⟩
  obtain ⟨ad, V, e0⟩ : ∃ ad, cl_V D dA (ad0, cl_n σ0) ad A s.heap σ0 s s.heap [] ∧ cl_at ad σ0 a0 o0 := ⟨ad0, V, e0⟩
  replace hl : lv_has ls 3 [(0, .ref a0), (1, .int p1)] := hl
  unfold cl_J14_copyOf at hF
  refine lv_iload_n hx hb dJ14_copyOf_0 rfl (lv_at hl 1 rfl) ?_
  refine lv_aload_n hx hb dJ14_copyOf_1 rfl (lv_at hl 0 rfl) ?_
  obtain ⟨hg, hF⟩ := dx_gd_some hF
  have k1 := of_decide_eq_true hg
  refine cl_lenS S V e0 k1 dJ14_copyOf_2 ?_
  refine lv_icmp_ne (tgt := 14) hx hb dJ14_copyOf_3 (by decide) (fun hc => ?_) (fun hc => ?_)
  · replace hF := (if_neg hc).symm.trans hF
    refine lv_iload_n hx hb dJ14_copyOf_14 rfl (lv_at hl 1 rfl) ?_
    obtain ⟨hg, hF⟩ := dx_gd_some hF
    replace hg := of_decide_eq_true hg
    refine cl_newaM 1 21 160 (atype := .byte) S V (by decide) (by decide) (by decide) rfl rfl (fun _ _ h => h) q206 rfl hg (Nat.le_of_ble_eq_true rfl) (by decide) (Nat.le_of_ble_eq_true rfl) (Nat.le_of_ble_eq_true rfl) dJ14_copyOf_15 (fun bb2 ad _ hag ee2 V => ?_)
    replace e0 := cl_at.nw 21 p1.toNatClampNeg e0 hag
    have k2 : cl_k (cl_nw σ0 21 p1.toNatClampNeg) (cl_n σ0 + 1) = 21 := cl_k_nw
    refine lv_astore_n (lv' := [(2, .ref bb2), (0, .ref a0), (1, .int p1)]) hx hb dJ14_copyOf_17 rfl hl (by decide) rfl (fun ls hl => ?_)
    refine lv_aload_n hx hb dJ14_copyOf_18 rfl (lv_at hl 1 rfl) ?_
    refine lv_iconst (v := 0) hx hb dJ14_copyOf_19 (by decide) ?_
    refine lv_aload_n hx hb dJ14_copyOf_20 rfl (lv_at hl 0 rfl) ?_
    refine lv_iconst (v := 0) hx hb dJ14_copyOf_21 (by decide) ?_
    refine lv_aload_n hx hb dJ14_copyOf_22 rfl (lv_at hl 1 rfl) ?_
    obtain ⟨hg, hF⟩ := dx_gd_some hF
    have k3 := of_decide_eq_true hg
    refine cl_lenS S V e0 k3 dJ14_copyOf_23 ?_
    refine lv_iload_n hx hb dJ14_copyOf_24 rfl (lv_at hl 2 rfl) ?_
    refine va_mmin hx hb (by rw [hl.1]; exact S.2.2.1) hown (hts _ q694) (hts _ q695) (hts _ q100) (hts _ q696) (Nat.le_of_ble_eq_true rfl) (Nat.le_of_ble_eq_true rfl) (Nat.le_of_ble_eq_true rfl) (Nat.le_of_ble_eq_true rfl) dJ14_copyOf_25 ?_
    obtain ⟨hg1, hF⟩ := dx_gd_some hF
    obtain ⟨hg2, hF⟩ := dx_gd_some hF
    refine cl_cpb S V e0 k3 ee2 k2 hl.1 q697 q500 q499 q93 hg1 hg2 (Nat.le_of_ble_eq_true rfl) (Nat.le_of_ble_eq_true rfl) dJ14_copyOf_28 (fun _ _ V => ?_)
    obtain ⟨σ4, eσ4⟩ : ∃ x, x = (cl_cp (cl_nw σ0 21 p1.toNatClampNeg) o0 (cl_n σ0 + 1) (0 : Int32) (0 : Int32) (if p1 < (Int32.ofNat (cl_l (cl_nw σ0 21 p1.toNatClampNeg) o0)) then p1 else (Int32.ofNat (cl_l (cl_nw σ0 21 p1.toNatClampNeg) o0)))) := ⟨_, rfl⟩
    rw [← eσ4] at V
    replace hF := dx_let_e eσ4 hF
    replace e0 : cl_at ad σ4 a0 o0 := by rw [eσ4]; exact e0
    replace ee2 : cl_at ad σ4 bb2 (cl_n σ0 + 1) := by rw [eσ4]; exact ee2
    replace k2 : cl_k σ4 (cl_n σ0 + 1) = 21 := by rw [eσ4]; exact k2
    replace k3 : cl_k σ4 o0 = 21 ∨ cl_k σ4 o0 = 23 := by rw [eσ4]; exact k3
    refine lv_aload_n hx hb dJ14_copyOf_31 rfl (lv_at hl 0 rfl) ?_
    refine W.widen (k := 1) (n := 160) (by first | omega | (dsimp only; omega)) (by first | omega | (dsimp only; omega)) ?_
    obtain ⟨hF1, hF2⟩ := dx_r2 hF
    subst hF1
    subst hF2
    exact cl_rr S V hr (Or.inr ⟨_, rfl⟩) hlocks ee2 dJ14_copyOf_32
  · replace hF := (if_pos hc).symm.trans hF
    cases hF
theorem cd_J9_ensureCapacityInternal : yJ9_ensureCapacityInternal.cls ≠ "java/lang/invoke/MethodHandle" ∧ yJ9_ensureCapacityInternal.cls ≠ "java/lang/invoke/VarHandle" ∧ (parseMethodDescriptor yJ9_ensureCapacityInternal.desc).map (fun d => d.parameters.length) = some 1 := by decide +kernel
set_option maxHeartbeats 4000000 in
set_option maxRecDepth 100000 in
theorem cm_J9_ensureCapacityInternal (l : Launch) (D : va_G) (dA : Nat → ClassId) (ad0 : Nat → Nat) (A : Nat → Prop) (a0 : Nat) (o0 : Nat) (p0 : Int32) (σ0 : cl_S) (σ' : cl_S) (e0 : cl_at ad0 σ0 a0 o0) (hF : cl_J9_ensureCapacityInternal o0 σ0 p0 = some σ') : cl_Cv l yJ9_ensureCapacityInternal cJ9_ensureCapacityInternal 3 ({ frames := 3, cells := 1, slots := 160, locals := 69 }) D dA ad0 A [.ref a0, .int p0] σ0 σ' := by
  refine cl_in RJ9 rfl (by decide) (Nat.le_of_ble_eq_true rfl) ?_
  intro p e s m below meth c ls S hr hlocks hini hv hl
  have hx := S.1
  have hb := S.2.1
  have hown := S.2.2.2.1
  have hts := S.2.2.2.2
  obtain ⟨hN, hK, hP, hD, hA, hZ⟩ := hv
  have V : cl_V D dA (ad0, cl_n σ0) ad0 A s.heap σ0 s s.heap [] := ⟨hN, hK, hP, hD, va_S.rf, hA, hZ, fun _ _ => rfl, Nat.le_refl _⟩
  obtain ⟨ad, V, e0⟩ : ∃ ad, cl_V D dA (ad0, cl_n σ0) ad A s.heap σ0 s s.heap [] ∧ cl_at ad σ0 a0 o0 := ⟨ad0, V, e0⟩
  replace hl : lv_has ls 3 [(0, .ref a0), (1, .int p0)] := hl
  unfold cl_J9_ensureCapacityInternal at hF
  refine lv_aload_n hx hb dJ9_ensureCapacityInternal_0 rfl (lv_at hl 0 rfl) ?_
  obtain ⟨hg, hF⟩ := dx_gd_some hF
  have k1 := of_decide_eq_true hg
  obtain ⟨hg, hF⟩ := dx_gd_some hF
  refine cl_gr S V e0 k1 rfl (by decide) in_J10 0 (by decide) rfl q640 rfl dJ9_ensureCapacityInternal_1 (of_decide_eq_true hg) (fun bb2 ee2 => ?_)
  obtain ⟨hg, hF⟩ := dx_gd_some hF
  have k3 := of_decide_eq_true hg
  refine cl_lenS S V ee2 k3 dJ9_ensureCapacityInternal_4 ?_
  refine lv_aload_n hx hb dJ9_ensureCapacityInternal_5 rfl (lv_at hl 0 rfl) ?_
  refine cl_gi S V e0 k1 rfl (by decide) in_J10 1 (by decide) rfl q641 rfl dJ9_ensureCapacityInternal_6 ?_
  refine lv_ishr hx hb dJ9_ensureCapacityInternal_9 ?_
  refine lv_istore_n (lv' := [(2, .int ((Int32.ofNat (cl_l σ0 (cl_r σ0 o0 0))) >>> ((cl_i σ0 o0 1) &&& 31))), (0, .ref a0), (1, .int p0)]) hx hb dJ9_ensureCapacityInternal_10 rfl hl (by decide) rfl (fun ls hl => ?_)
  refine lv_iload_n hx hb dJ9_ensureCapacityInternal_11 rfl (lv_at hl 2 rfl) ?_
  refine lv_iload_n hx hb dJ9_ensureCapacityInternal_12 rfl (lv_at hl 0 rfl) ?_
  refine lv_isub hx hb dJ9_ensureCapacityInternal_13 ?_
  refine lv_if_le (tgt := 38) hx hb dJ9_ensureCapacityInternal_14 (by decide) (fun hc => ?_) (fun hc => ?_)
  · replace hF := (if_pos hc).symm.trans hF
    refine W.widen (k := 1) (n := 160) (by first | omega | (dsimp only; omega)) (by first | omega | (dsimp only; omega)) ?_
    replace hF := Option.some.inj hF
    subst hF
    exact cl_rv S V hr hlocks dJ9_ensureCapacityInternal_38
  · replace hF := (if_neg hc).symm.trans hF
    refine lv_aload_n hx hb dJ9_ensureCapacityInternal_17 rfl (lv_at hl 1 rfl) ?_
    refine lv_aload_n hx hb dJ9_ensureCapacityInternal_18 rfl (lv_at hl 1 rfl) ?_
    obtain ⟨hg, hF⟩ := dx_gd_some hF
    refine cl_gr S V e0 k1 rfl (by decide) in_J10 0 (by decide) rfl q640 rfl dJ9_ensureCapacityInternal_19 (of_decide_eq_true hg) (fun bb4 ee4 => ?_)
    refine lv_aload_n hx hb dJ9_ensureCapacityInternal_22 rfl (lv_at hl 1 rfl) ?_
    refine lv_iload_n hx hb dJ9_ensureCapacityInternal_23 rfl (lv_at hl 2 rfl) ?_
    obtain ⟨r5, σ5, h5c, hF⟩ := dx_b2_some hF
    refine cl_ci (va_runU (As := [.int p0]) S (cm_J9_newCapacity l D dA _ A a0 o0 p0 σ0 _ _ e0 h5c) (cl_cwQ (owner := "java/lang/AbstractStringBuilder") (k := 1) hts q669 q2057 q671 q672 (va_Nw.use rfl (V.1.2.2.2.2.2.2.1.1 _ dw_9)) q671 q96 q672 (by decide) (by decide +kernel) ⟨Nat.le_of_ble_eq_true rfl, Nat.le_of_ble_eq_true rfl⟩) (cl_preV V [.int p0] e0 k1 rfl (by decide)) rfl rfl hl.1 rfl (lv_room (Nat.le_of_ble_eq_true rfl)) dJ9_ensureCapacityInternal_24 ⟨Nat.le_of_ble_eq_true rfl, Nat.le_of_ble_eq_true rfl⟩) V (fun ad _ _ hag hle V => ?_)
    replace e0 := e0.mv hag hle
    replace ee4 := ee4.mv hag hle
    refine lv_aload_n hx hb dJ9_ensureCapacityInternal_27 rfl (lv_at hl 1 rfl) ?_
    obtain ⟨hg, hF⟩ := dx_gd_some hF
    have k6 := of_decide_eq_true hg
    refine cl_gi S V e0 k6 rfl (by decide) in_J10 1 (by decide) rfl q641 rfl dJ9_ensureCapacityInternal_28 ?_
    refine lv_ishl hx hb dJ9_ensureCapacityInternal_31 ?_
    obtain ⟨r7, σ7, h7c, hF⟩ := dx_b2_some hF
    obtain ⟨hg, hF⟩ := dx_gd_some hF
    refine cl_cr (va_runS (As := [.ref bb4, .int (r5 <<< ((cl_i σ5 o0 1) &&& 31))]) S (cm_J14_copyOf l D dA _ A bb4 (cl_r σ0 o0 0) (r5 <<< ((cl_i σ5 o0 1) &&& 31)) σ5 _ _ ee4 h7c) (va_cwS 2 hts (lw_S q684 q685 q101 q686) rfl rfl rfl cd_J14_copyOf ⟨Nat.le_of_ble_eq_true rfl, Nat.le_of_ble_eq_true rfl⟩) (cl_preS V [.ref bb4, .int (r5 <<< ((cl_i σ5 o0 1) &&& 31))]) rfl rfl hl.1 rfl (lv_room (Nat.le_of_ble_eq_true rfl)) dJ9_ensureCapacityInternal_32 ⟨Nat.le_of_ble_eq_true rfl, Nat.le_of_ble_eq_true rfl⟩) V (of_decide_eq_true hg) (fun bb7 ad _ _ hag hle ee7 V => ?_)
    replace e0 := e0.mv hag hle
    obtain ⟨hg, hF⟩ := dx_gd_some hF
    have k8 := of_decide_eq_true hg
    refine cl_pr S V e0 k8 rfl (by decide) in_J10 tyJ10 tyJ10_ok nmJ10 0 (by decide) rfl q640 rfl rfl ee7 rfl rfl dJ9_ensureCapacityInternal_35 (fun _ _ V => ?_)
    refine W.widen (k := 1) (n := 160) (by first | omega | (dsimp only; omega)) (by first | omega | (dsimp only; omega)) ?_
    replace hF := Option.some.inj hF
    subst hF
    exact cl_rv S V hr hlocks dJ9_ensureCapacityInternal_38
theorem cd_J9_inflateIfNeededFor : yJ9_inflateIfNeededFor.cls ≠ "java/lang/invoke/MethodHandle" ∧ yJ9_inflateIfNeededFor.cls ≠ "java/lang/invoke/VarHandle" ∧ (parseMethodDescriptor yJ9_inflateIfNeededFor.desc).map (fun d => d.parameters.length) = some 1 := by decide +kernel
set_option maxHeartbeats 4000000 in
set_option maxRecDepth 100000 in
theorem cm_J9_inflateIfNeededFor (l : Launch) (D : va_G) (dA : Nat → ClassId) (ad0 : Nat → Nat) (A : Nat → Prop) (a0 : Nat) (a1 : Nat) (o0 : Nat) (o1 : Nat)  (σ0 : cl_S) (e0 : cl_at ad0 σ0 a0 o0) (e1 : cl_at ad0 σ0 a1 o1) (hF : cl_J9_inflateIfNeededFor o0 o1 σ0 = some ()) : cl_Cv l yJ9_inflateIfNeededFor cJ9_inflateIfNeededFor 2 ({ frames := 1, cells := 0, slots := 0, locals := 20 }) D dA ad0 A [.ref a0, .ref a1] σ0 σ0 := by
  refine cl_in RJ9 rfl (by decide) (Nat.le_of_ble_eq_true rfl) ?_
  intro p e s m below meth c ls S hr hlocks hini hv hl
  have hx := S.1
  have hb := S.2.1
  have hown := S.2.2.2.1
  have hts := S.2.2.2.2
  obtain ⟨hN, hK, hP, hD, hA, hZ⟩ := hv
  have V : cl_V D dA (ad0, cl_n σ0) ad0 A s.heap σ0 s s.heap [] := ⟨hN, hK, hP, hD, va_S.rf, hA, hZ, fun _ _ => rfl, Nat.le_refl _⟩
  obtain ⟨ad, V, e0, e1⟩ : ∃ ad, cl_V D dA (ad0, cl_n σ0) ad A s.heap σ0 s s.heap [] ∧ cl_at ad σ0 a0 o0 ∧ cl_at ad σ0 a1 o1 := ⟨ad0, V, e0, e1⟩
  replace hl : lv_has ls 2 [(0, .ref a0), (1, .ref a1)] := hl
  unfold cl_J9_inflateIfNeededFor at hF
  refine va_gets hx hb V.1.x.2.2.1.1 V.2.2.2.2.1 hown (hts _ q626) (fun _ h => h) dJ9_inflateIfNeededFor_0 ?_
  refine lv_if_eq (tgt := 21) hx hb dJ9_inflateIfNeededFor_3 (by decide) (fun hc => ?_) (fun hc => ?_)
  · exact absurd hc (by decide)
  · refine lv_aload_n hx hb dJ9_inflateIfNeededFor_6 rfl (lv_at hl 0 rfl) ?_
    obtain ⟨hg, hF⟩ := dx_gd_some hF
    have k1 := of_decide_eq_true hg
    refine cl_gi S V e0 k1 rfl (by decide) in_J10 1 (by decide) rfl q641 rfl dJ9_inflateIfNeededFor_7 ?_
    refine lv_aload_n hx hb dJ9_inflateIfNeededFor_10 rfl (lv_at hl 1 rfl) ?_
    obtain ⟨hg, hF⟩ := dx_gd_some hF
    have k3 := of_decide_eq_true hg
    obtain ⟨r2, h2c, hF⟩ := dx_b1_some hF
    refine cl_ci (va_runV (As := []) S (cm_J4_coder l D dA _ A a1 o1  σ0 _ e1 h2c) (cwV 0 hts (lw_V q746 q734 q735 q88 q736) rfl rfl rfl ⟨rfl, cd_J4_coder⟩ ⟨Nat.le_of_ble_eq_true rfl, Nat.le_of_ble_eq_true rfl⟩) (cl_preVS V [] e1 k3) rfl rfl hl.1 rfl (lv_room (Nat.le_of_ble_eq_true rfl)) dJ9_inflateIfNeededFor_11 ⟨Nat.le_of_ble_eq_true rfl, Nat.le_of_ble_eq_true rfl⟩) V (fun ad _ _ hag hle V => ?_)
    replace e0 := e0.mv hag hle
    replace e1 := e1.mv hag hle
    refine lv_icmp_eq (tgt := 21) hx hb dJ9_inflateIfNeededFor_14 (by decide) (fun hc => ?_) (fun hc => ?_)
    · replace hF := (if_pos hc).symm.trans hF
      exact cl_rv S V hr hlocks dJ9_inflateIfNeededFor_21
    · replace hF := (if_neg hc).symm.trans hF
      cases hF
theorem cd_J4_getBytes : yJ4_getBytes.cls ≠ "java/lang/invoke/MethodHandle" ∧ yJ4_getBytes.cls ≠ "java/lang/invoke/VarHandle" ∧ (parseMethodDescriptor yJ4_getBytes.desc).map (fun d => d.parameters.length) = some 3 := by decide +kernel
set_option maxHeartbeats 4000000 in
set_option maxRecDepth 100000 in
theorem cm_J4_getBytes (l : Launch) (D : va_G) (dA : Nat → ClassId) (ad0 : Nat → Nat) (A : Nat → Prop) (a0 : Nat) (a1 : Nat) (o0 : Nat) (o1 : Nat) (p1 : Int32) (p2 : Int32) (σ0 : cl_S) (σ' : cl_S) (e0 : cl_at ad0 σ0 a0 o0) (e1 : cl_at ad0 σ0 a1 o1) (hF : cl_J4_getBytes o0 o1 σ0 p1 p2 = some σ') : cl_Cv l yJ4_getBytes cJ4_getBytes 4 ({ frames := 1, cells := 0, slots := 0, locals := 26 }) D dA ad0 A [.ref a0, .ref a1, .int p1, .int p2] σ0 σ' := by
  refine cl_in RJ4 rfl (by decide) (Nat.le_of_ble_eq_true rfl) ?_
  intro p e s m below meth c ls S hr hlocks hini hv hl
  have hx := S.1
  have hb := S.2.1
  have hown := S.2.2.2.1
  have hts := S.2.2.2.2
  obtain ⟨hN, hK, hP, hD, hA, hZ⟩ := hv
  have V : cl_V D dA (ad0, cl_n σ0) ad0 A s.heap σ0 s s.heap [] := ⟨hN, hK, hP, hD, va_S.rf, hA, hZ, fun _ _ => rfl, Nat.le_refl _⟩
  obtain ⟨ad, V, e0, e1⟩ : ∃ ad, cl_V D dA (ad0, cl_n σ0) ad A s.heap σ0 s s.heap [] ∧ cl_at ad σ0 a0 o0 ∧ cl_at ad σ0 a1 o1 := ⟨ad0, V, e0, e1⟩
  replace hl : lv_has ls 4 [(0, .ref a0), (1, .ref a1), (2, .int p1), (3, .int p2)] := hl
  unfold cl_J4_getBytes at hF
  refine lv_aload_n hx hb dJ4_getBytes_0 rfl (lv_at hl 0 rfl) ?_
  obtain ⟨hg, hF⟩ := dx_gd_some hF
  have k2 := of_decide_eq_true hg
  obtain ⟨r1, h1c, hF⟩ := dx_b1_some hF
  refine cl_ci (va_runV (As := []) S (cm_J4_coder l D dA _ A a0 o0  σ0 _ e0 h1c) (cwV 0 hts (lw_V q733 q734 q735 q88 q736) rfl rfl rfl ⟨rfl, cd_J4_coder⟩ ⟨Nat.le_of_ble_eq_true rfl, Nat.le_of_ble_eq_true rfl⟩) (cl_preVS V [] e0 k2) rfl rfl hl.1 rfl (lv_room (Nat.le_of_ble_eq_true rfl)) dJ4_getBytes_1 ⟨Nat.le_of_ble_eq_true rfl, Nat.le_of_ble_eq_true rfl⟩) V (fun ad _ _ hag hle V => ?_)
  replace e0 := e0.mv hag hle
  replace e1 := e1.mv hag hle
  refine lv_iload_n hx hb dJ4_getBytes_4 rfl (lv_at hl 3 rfl) ?_
  refine lv_icmp_ne (tgt := 28) hx hb dJ4_getBytes_5 (by decide) (fun hc => ?_) (fun hc => ?_)
  · replace hF := (if_neg hc).symm.trans hF
    cases hF
  · replace hF := (if_pos hc).symm.trans hF
    refine lv_aload_n hx hb dJ4_getBytes_8 rfl (lv_at hl 0 rfl) ?_
    obtain ⟨hg, hF⟩ := dx_gd_some hF
    refine cl_grS S V e0 k2 q842 dJ4_getBytes_9 (of_decide_eq_true hg) (fun bb3 ee3 => ?_)
    refine lv_iconst (v := 0) hx hb dJ4_getBytes_12 (by decide) ?_
    refine lv_aload_n hx hb dJ4_getBytes_13 rfl (lv_at hl 1 rfl) ?_
    refine lv_iload_n hx hb dJ4_getBytes_14 rfl (lv_at hl 2 rfl) ?_
    refine lv_iload_n hx hb dJ4_getBytes_15 rfl (lv_at hl 3 rfl) ?_
    refine lv_ishl hx hb dJ4_getBytes_16 ?_
    refine lv_aload_n hx hb dJ4_getBytes_17 rfl (lv_at hl 0 rfl) ?_
    obtain ⟨hg, hF⟩ := dx_gd_some hF
    refine cl_grS S V e0 k2 q842 dJ4_getBytes_18 (of_decide_eq_true hg) (fun bb4 ee4 => ?_)
    obtain ⟨hg, hF⟩ := dx_gd_some hF
    have k5 := of_decide_eq_true hg
    refine cl_lenS S V ee4 k5 dJ4_getBytes_21 ?_
    obtain ⟨hg, hF⟩ := dx_gd_some hF
    have k6 := of_decide_eq_true hg
    obtain ⟨hg1, hF⟩ := dx_gd_some hF
    obtain ⟨hg2, hF⟩ := dx_gd_some hF
    refine cl_cpb S V ee3 k5 e1 k6 hl.1 q770 q500 q499 q93 hg1 hg2 (Nat.le_of_ble_eq_true rfl) (Nat.le_of_ble_eq_true rfl) dJ4_getBytes_22 (fun _ _ V => ?_)
    obtain ⟨σ7, eσ7⟩ : ∃ x, x = (cl_cp σ0 (cl_r σ0 o0 0) o1 (0 : Int32) (p1 <<< (p2 &&& 31)) (Int32.ofNat (cl_l σ0 (cl_r σ0 o0 0)))) := ⟨_, rfl⟩
    rw [← eσ7] at V
    replace hF := dx_let_e eσ7 hF
    replace e0 : cl_at ad σ7 a0 o0 := by rw [eσ7]; exact e0
    replace e1 : cl_at ad σ7 a1 o1 := by rw [eσ7]; exact e1
    replace k2 : cl_k σ7 o0 = 16 ∨ cl_k σ7 o0 = 18 := by rw [eσ7]; exact k2
    replace k5 : cl_k σ7 (cl_r σ0 o0 0) = 21 ∨ cl_k σ7 (cl_r σ0 o0 0) = 23 := by rw [eσ7]; exact k5
    replace k6 : cl_k σ7 o1 = 21 := by rw [eσ7]; exact k6
    refine lv_goto (tgt := 43) hx hb dJ4_getBytes_25 (by decide) ?_
    replace hF := Option.some.inj hF
    subst hF
    exact cl_rv S V hr hlocks dJ4_getBytes_43
theorem cd_J9_putStringAt : yJ9_putStringAt.cls ≠ "java/lang/invoke/MethodHandle" ∧ yJ9_putStringAt.cls ≠ "java/lang/invoke/VarHandle" ∧ (parseMethodDescriptor yJ9_putStringAt.desc).map (fun d => d.parameters.length) = some 2 := by decide +kernel
set_option maxHeartbeats 4000000 in
set_option maxRecDepth 100000 in
theorem cm_J9_putStringAt (l : Launch) (D : va_G) (dA : Nat → ClassId) (ad0 : Nat → Nat) (A : Nat → Prop) (a0 : Nat) (a2 : Nat) (o0 : Nat) (o2 : Nat) (p0 : Int32) (σ0 : cl_S) (σ' : cl_S) (e0 : cl_at ad0 σ0 a0 o0) (e2 : cl_at ad0 σ0 a2 o2) (hF : cl_J9_putStringAt o0 o2 σ0 p0 = some σ') : cl_Cv l yJ9_putStringAt cJ9_putStringAt 3 ({ frames := 2, cells := 0, slots := 0, locals := 49 }) D dA ad0 A [.ref a0, .int p0, .ref a2] σ0 σ' := by
  refine cl_in RJ9 rfl (by decide) (Nat.le_of_ble_eq_true rfl) ?_
  intro p e s m below meth c ls S hr hlocks hini hv hl
  have hx := S.1
  have hb := S.2.1
  have hown := S.2.2.2.1
  have hts := S.2.2.2.2
  obtain ⟨hN, hK, hP, hD, hA, hZ⟩ := hv
  have V : cl_V D dA (ad0, cl_n σ0) ad0 A s.heap σ0 s s.heap [] := ⟨hN, hK, hP, hD, va_S.rf, hA, hZ, fun _ _ => rfl, Nat.le_refl _⟩
  obtain ⟨ad, V, e0, e2⟩ : ∃ ad, cl_V D dA (ad0, cl_n σ0) ad A s.heap σ0 s s.heap [] ∧ cl_at ad σ0 a0 o0 ∧ cl_at ad σ0 a2 o2 := ⟨ad0, V, e0, e2⟩
  replace hl : lv_has ls 3 [(0, .ref a0), (1, .int p0), (2, .ref a2)] := hl
  unfold cl_J9_putStringAt at hF
  refine lv_aload_n hx hb dJ9_putStringAt_0 rfl (lv_at hl 0 rfl) ?_
  refine lv_aload_n hx hb dJ9_putStringAt_1 rfl (lv_at hl 2 rfl) ?_
  obtain ⟨hg, hF⟩ := dx_gd_some hF
  have k2 := of_decide_eq_true hg
  obtain ⟨_, h1c, hF⟩ := dx_b1_some hF
  refine cl_cv (va_runU (As := [.ref a2]) S (cm_J9_inflateIfNeededFor l D dA _ A a0 a2 o0 o2  σ0  e0 e2 h1c) (cl_cwQ (owner := "java/lang/AbstractStringBuilder") (k := 1) hts q742 q2059 q744 q745 (va_Nw.use rfl (V.1.2.2.2.2.2.2.1.1 _ dw_11)) q744 q96 q745 (by decide) (by decide +kernel) ⟨Nat.le_of_ble_eq_true rfl, Nat.le_of_ble_eq_true rfl⟩) (cl_preV V [.ref a2] e0 k2 rfl (by decide)) rfl rfl hl.1 rfl (lv_room (Nat.le_of_ble_eq_true rfl)) dJ9_putStringAt_2 ⟨Nat.le_of_ble_eq_true rfl, Nat.le_of_ble_eq_true rfl⟩) V (fun ad _ _ hag hle V => ?_)
  replace e0 := e0.mv hag hle
  replace e2 := e2.mv hag hle
  refine lv_aload_n hx hb dJ9_putStringAt_5 rfl (lv_at hl 2 rfl) ?_
  refine lv_aload_n hx hb dJ9_putStringAt_6 rfl (lv_at hl 0 rfl) ?_
  obtain ⟨hg, hF⟩ := dx_gd_some hF
  refine cl_gr S V e0 k2 rfl (by decide) in_J10 0 (by decide) rfl q640 rfl dJ9_putStringAt_7 (of_decide_eq_true hg) (fun bb3 ee3 => ?_)
  refine lv_iload_n hx hb dJ9_putStringAt_10 rfl (lv_at hl 1 rfl) ?_
  refine lv_aload_n hx hb dJ9_putStringAt_11 rfl (lv_at hl 0 rfl) ?_
  refine cl_gi S V e0 k2 rfl (by decide) in_J10 1 (by decide) rfl q641 rfl dJ9_putStringAt_12 ?_
  obtain ⟨hg, hF⟩ := dx_gd_some hF
  have k5 := of_decide_eq_true hg
  obtain ⟨σ4, h4c, hF⟩ := dx_b1_some hF
  refine cl_cv (va_runV (As := [.ref bb3, .int p0, .int (cl_i σ0 o0 1)]) S (cm_J4_getBytes l D dA _ A a2 bb3 o2 (cl_r σ0 o0 0) p0 (cl_i σ0 o0 1) σ0 _ e2 ee3 h4c) (cwV 3 hts (lw_V q766 q767 q768 q88 q769) rfl rfl rfl ⟨rfl, cd_J4_getBytes⟩ ⟨Nat.le_of_ble_eq_true rfl, Nat.le_of_ble_eq_true rfl⟩) (cl_preVS V [.ref bb3, .int p0, .int (cl_i σ0 o0 1)] e2 k5) rfl rfl hl.1 rfl (lv_room (Nat.le_of_ble_eq_true rfl)) dJ9_putStringAt_15 ⟨Nat.le_of_ble_eq_true rfl, Nat.le_of_ble_eq_true rfl⟩) V (fun ad _ _ hag hle V => ?_)
  replace e0 := e0.mv hag hle
  replace e2 := e2.mv hag hle
  replace hF := Option.some.inj hF
  subst hF
  exact cl_rv S V hr hlocks dJ9_putStringAt_18
theorem cd_J9_append : yJ9_append.cls ≠ "java/lang/invoke/MethodHandle" ∧ yJ9_append.cls ≠ "java/lang/invoke/VarHandle" ∧ (parseMethodDescriptor yJ9_append.desc).map (fun d => d.parameters.length) = some 1 := by decide +kernel
set_option maxHeartbeats 4000000 in
set_option maxRecDepth 100000 in
theorem cm_J9_append (l : Launch) (D : va_G) (dA : Nat → ClassId) (ad0 : Nat → Nat) (A : Nat → Prop) (a0 : Nat) (a1 : Nat) (o0 : Nat) (o1 : Nat)  (σ0 : cl_S) (r : Nat) (σ' : cl_S) (e0 : cl_at ad0 σ0 a0 o0) (e1 : cl_at ad0 σ0 a1 o1) (hF : cl_J9_append o0 o1 σ0 = some (r, σ')) : cl_Cr l yJ9_append cJ9_append 3 (.object "java/lang/AbstractStringBuilder") ({ frames := 4, cells := 1, slots := 160, locals := 91 }) D dA ad0 A [.ref a0, .ref a1] σ0 r σ' := by
  refine cl_in RJ9 rfl (by decide) (Nat.le_of_ble_eq_true rfl) ?_
  intro p e s m below meth c ls S hr hlocks hini hv hl
  have hx := S.1
  have hb := S.2.1
  have hown := S.2.2.2.1
  have hts := S.2.2.2.2
  obtain ⟨hN, hK, hP, hD, hA, hZ⟩ := hv
  have V : cl_V D dA (ad0, cl_n σ0) ad0 A s.heap σ0 s s.heap [] := ⟨hN, hK, hP, hD, va_S.rf, hA, hZ, fun _ _ => rfl, Nat.le_refl _⟩
  obtain ⟨ad, V, e0, e1⟩ : ∃ ad, cl_V D dA (ad0, cl_n σ0) ad A s.heap σ0 s s.heap [] ∧ cl_at ad σ0 a0 o0 ∧ cl_at ad σ0 a1 o1 := ⟨ad0, V, e0, e1⟩
  replace hl : lv_has ls 3 [(0, .ref a0), (1, .ref a1)] := hl
  unfold cl_J9_append at hF
  refine lv_aload_n hx hb dJ9_append_0 rfl (lv_at hl 1 rfl) ?_
  refine lv_ifnonnull (tgt := 9) hx hb dJ9_append_1 (by decide) ?_
  refine lv_aload_n hx hb dJ9_append_9 rfl (lv_at hl 1 rfl) ?_
  obtain ⟨hg, hF⟩ := dx_gd_some hF
  have k2 := of_decide_eq_true hg
  obtain ⟨r1, h1c, hF⟩ := dx_b1_some hF
  refine cl_ci (va_runV (As := []) S (cm_J4_length l D dA _ A a1 o1  σ0 _ e1 h1c) (cwV 0 hts (lw_V q729 q730 q731 q88 q732) rfl rfl rfl ⟨rfl, cd_J4_length⟩ ⟨Nat.le_of_ble_eq_true rfl, Nat.le_of_ble_eq_true rfl⟩) (cl_preVS V [] e1 k2) rfl rfl hl.1 rfl (lv_room (Nat.le_of_ble_eq_true rfl)) dJ9_append_10 ⟨Nat.le_of_ble_eq_true rfl, Nat.le_of_ble_eq_true rfl⟩) V (fun ad _ _ hag hle V => ?_)
  replace e0 := e0.mv hag hle
  replace e1 := e1.mv hag hle
  refine lv_istore_n (lv' := [(2, .int r1), (0, .ref a0), (1, .ref a1)]) hx hb dJ9_append_13 rfl hl (by decide) rfl (fun ls hl => ?_)
  refine lv_aload_n hx hb dJ9_append_14 rfl (lv_at hl 1 rfl) ?_
  refine lv_aload_n hx hb dJ9_append_15 rfl (lv_at hl 1 rfl) ?_
  obtain ⟨hg, hF⟩ := dx_gd_some hF
  have k3 := of_decide_eq_true hg
  refine cl_gi S V e0 k3 rfl (by decide) in_J10 3 (by decide) rfl q643 rfl dJ9_append_16 ?_
  refine lv_iload_n hx hb dJ9_append_19 rfl (lv_at hl 0 rfl) ?_
  refine lv_iadd hx hb dJ9_append_20 ?_
  obtain ⟨σ4, h4c, hF⟩ := dx_b1_some hF
  refine cl_cv (va_runU (As := [.int ((cl_i σ0 o0 3) + r1)]) S (cm_J9_ensureCapacityInternal l D dA _ A a0 o0 ((cl_i σ0 o0 3) + r1) σ0 _ e0 h4c) (cl_cwQ (owner := "java/lang/AbstractStringBuilder") (k := 1) hts q665 q2056 q667 q668 (va_Nw.use rfl (V.1.2.2.2.2.2.2.1.1 _ dw_8)) q667 q96 q668 (by decide) (by decide +kernel) ⟨Nat.le_of_ble_eq_true rfl, Nat.le_of_ble_eq_true rfl⟩) (cl_preV V [.int ((cl_i σ0 o0 3) + r1)] e0 k3 rfl (by decide)) rfl rfl hl.1 rfl (lv_room (Nat.le_of_ble_eq_true rfl)) dJ9_append_21 ⟨Nat.le_of_ble_eq_true rfl, Nat.le_of_ble_eq_true rfl⟩) V (fun ad _ _ hag hle V => ?_)
  replace e0 := e0.mv hag hle
  replace e1 := e1.mv hag hle
  refine lv_aload_n hx hb dJ9_append_24 rfl (lv_at hl 1 rfl) ?_
  refine lv_aload_n hx hb dJ9_append_25 rfl (lv_at hl 1 rfl) ?_
  obtain ⟨hg, hF⟩ := dx_gd_some hF
  have k5 := of_decide_eq_true hg
  refine cl_gi S V e0 k5 rfl (by decide) in_J10 3 (by decide) rfl q643 rfl dJ9_append_26 ?_
  refine lv_aload_n hx hb dJ9_append_29 rfl (lv_at hl 2 rfl) ?_
  obtain ⟨σ6, h6c, hF⟩ := dx_b1_some hF
  refine cl_cv (va_runU (As := [.int (cl_i σ4 o0 3), .ref a1]) S (cm_J9_putStringAt l D dA _ A a0 a1 o0 o1 (cl_i σ4 o0 3) σ4 _ e0 e1 h6c) (cl_cwQ (owner := "java/lang/AbstractStringBuilder") (k := 2) hts q738 q2058 q740 q741 (va_Nw.use rfl (V.1.2.2.2.2.2.2.1.1 _ dw_10)) q740 q96 q741 (by decide) (by decide +kernel) ⟨Nat.le_of_ble_eq_true rfl, Nat.le_of_ble_eq_true rfl⟩) (cl_preV V [.int (cl_i σ4 o0 3), .ref a1] e0 k5 rfl (by decide)) rfl rfl hl.1 rfl (lv_room (Nat.le_of_ble_eq_true rfl)) dJ9_append_30 ⟨Nat.le_of_ble_eq_true rfl, Nat.le_of_ble_eq_true rfl⟩) V (fun ad _ _ hag hle V => ?_)
  replace e0 := e0.mv hag hle
  replace e1 := e1.mv hag hle
  refine lv_aload_n hx hb dJ9_append_33 rfl (lv_at hl 1 rfl) ?_
  refine lv_dup hx hb dJ9_append_34 rfl ?_
  obtain ⟨hg, hF⟩ := dx_gd_some hF
  have k7 := of_decide_eq_true hg
  refine cl_gi S V e0 k7 rfl (by decide) in_J10 3 (by decide) rfl q643 rfl dJ9_append_35 ?_
  refine lv_iload_n hx hb dJ9_append_38 rfl (lv_at hl 0 rfl) ?_
  refine lv_iadd hx hb dJ9_append_39 ?_
  refine cl_pi S V e0 k7 rfl (by decide) in_J10 tyJ10 tyJ10_ok nmJ10 3 (by decide) rfl q643 rfl rfl rfl dJ9_append_40 (fun _ _ V => ?_)
  refine lv_aload_n hx hb dJ9_append_43 rfl (lv_at hl 1 rfl) ?_
  refine W.widen (k := 1) (n := 160) (by first | omega | (dsimp only; omega)) (by first | omega | (dsimp only; omega)) ?_
  obtain ⟨hF1, hF2⟩ := dx_r2 hF
  subst hF1
  subst hF2
  exact cl_rr S V hr (Or.inl ⟨_, rfl⟩) hlocks e0 dJ9_append_44
theorem cd_J10_append : yJ10_append.cls ≠ "java/lang/invoke/MethodHandle" ∧ yJ10_append.cls ≠ "java/lang/invoke/VarHandle" ∧ (parseMethodDescriptor yJ10_append.desc).map (fun d => d.parameters.length) = some 1 := by decide +kernel
set_option maxHeartbeats 4000000 in
set_option maxRecDepth 100000 in
theorem cm_J10_append (l : Launch) (D : va_G) (dA : Nat → ClassId) (ad0 : Nat → Nat) (A : Nat → Prop) (a0 : Nat) (a1 : Nat) (o0 : Nat) (o1 : Nat)  (σ0 : cl_S) (r : Nat) (σ' : cl_S) (e0 : cl_at ad0 σ0 a0 o0) (e1 : cl_at ad0 σ0 a1 o1) (hF : cl_J10_append o0 o1 σ0 = some (r, σ')) : cl_Cr l yJ10_append cJ10_append 2 (.object "java/lang/StringBuilder") ({ frames := 5, cells := 1, slots := 160, locals := 113 }) D dA ad0 A [.ref a0, .ref a1] σ0 r σ' := by
  refine cl_in RJ10 rfl (by decide) (Nat.le_of_ble_eq_true rfl) ?_
  intro p e s m below meth c ls S hr hlocks hini hv hl
  have hx := S.1
  have hb := S.2.1
  have hown := S.2.2.2.1
  have hts := S.2.2.2.2
  obtain ⟨hN, hK, hP, hD, hA, hZ⟩ := hv
  have V : cl_V D dA (ad0, cl_n σ0) ad0 A s.heap σ0 s s.heap [] := ⟨hN, hK, hP, hD, va_S.rf, hA, hZ, fun _ _ => rfl, Nat.le_refl _⟩
  obtain ⟨ad, V, e0, e1⟩ : ∃ ad, cl_V D dA (ad0, cl_n σ0) ad A s.heap σ0 s s.heap [] ∧ cl_at ad σ0 a0 o0 ∧ cl_at ad σ0 a1 o1 := ⟨ad0, V, e0, e1⟩
  replace hl : lv_has ls 2 [(0, .ref a0), (1, .ref a1)] := hl
  unfold cl_J10_append at hF
  refine lv_aload_n hx hb dJ10_append_0 rfl (lv_at hl 0 rfl) ?_
  refine lv_aload_n hx hb dJ10_append_1 rfl (lv_at hl 1 rfl) ?_
  obtain ⟨hg, hF⟩ := dx_gd_some hF
  have k2 := of_decide_eq_true hg
  obtain ⟨r1, σ1, h1c, hF⟩ := dx_b2_some hF
  obtain ⟨hg, hF⟩ := dx_gd_some hF
  refine cl_cr (cl_runSU (n := 1) (V.2.1.1 17 _ rfl).2 (As := [.ref a1]) S (cm_J9_append l D dA _ A a0 a1 o0 o1  σ0 _ _ e0 e1 h1c) rfl rfl q658 q2054 q652 (Or.inl rfl) q659 q96 q660 rfl (by decide +kernel) ⟨Nat.le_of_ble_eq_true rfl, Nat.le_of_ble_eq_true rfl⟩ (cl_preV V [.ref a1] e0 k2 rfl (by decide)) rfl rfl hl.1 rfl (lv_room (Nat.le_of_ble_eq_true rfl)) dJ10_append_2 ⟨Nat.le_of_ble_eq_true rfl, Nat.le_of_ble_eq_true rfl⟩) V (of_decide_eq_true hg) (fun bb1 ad _ _ hag hle ee1 V => ?_)
  replace e0 := e0.mv hag hle
  replace e1 := e1.mv hag hle
  refine lv_pop hx hb dJ10_append_5 rfl ?_
  refine lv_aload_n hx hb dJ10_append_6 rfl (lv_at hl 0 rfl) ?_
  refine W.widen (k := 1) (n := 160) (by first | omega | (dsimp only; omega)) (by first | omega | (dsimp only; omega)) ?_
  obtain ⟨hF1, hF2⟩ := dx_r2 hF
  subst hF1
  subst hF2
  exact cl_rr S V hr (Or.inl ⟨_, rfl⟩) hlocks e0 dJ10_append_7
theorem cd_J9_isLatin1 : yJ9_isLatin1.cls ≠ "java/lang/invoke/MethodHandle" ∧ yJ9_isLatin1.cls ≠ "java/lang/invoke/VarHandle" ∧ (parseMethodDescriptor yJ9_isLatin1.desc).map (fun d => d.parameters.length) = some 0 := by decide +kernel
set_option maxHeartbeats 4000000 in
set_option maxRecDepth 100000 in
theorem cm_J9_isLatin1 (l : Launch) (D : va_G) (dA : Nat → ClassId) (ad0 : Nat → Nat) (A : Nat → Prop) (a0 : Nat) (o0 : Nat)  (σ0 : cl_S) (r : Bool) (e0 : cl_at ad0 σ0 a0 o0) (hF : cl_J9_isLatin1 o0 σ0 = some r) : cl_Ci l yJ9_isLatin1 cJ9_isLatin1 1 .boolean ({ frames := 0, cells := 0, slots := 0, locals := 0 }) D dA ad0 A [.ref a0] σ0 (dx_bI r) σ0 := by
  refine cl_in RJ9 rfl (by decide) (Nat.le_of_ble_eq_true rfl) ?_
  intro p e s m below meth c ls S hr hlocks hini hv hl
  have hx := S.1
  have hb := S.2.1
  have hown := S.2.2.2.1
  have hts := S.2.2.2.2
  obtain ⟨hN, hK, hP, hD, hA, hZ⟩ := hv
  have V : cl_V D dA (ad0, cl_n σ0) ad0 A s.heap σ0 s s.heap [] := ⟨hN, hK, hP, hD, va_S.rf, hA, hZ, fun _ _ => rfl, Nat.le_refl _⟩
  obtain ⟨ad, V, e0⟩ : ∃ ad, cl_V D dA (ad0, cl_n σ0) ad A s.heap σ0 s s.heap [] ∧ cl_at ad σ0 a0 o0 := ⟨ad0, V, e0⟩
  replace hl : lv_has ls 1 [(0, .ref a0)] := hl
  unfold cl_J9_isLatin1 at hF
  refine va_gets hx hb V.1.x.2.2.1.1 V.2.2.2.2.1 hown (hts _ q626) (fun _ h => h) dJ9_isLatin1_0 ?_
  refine lv_if_eq (tgt := 17) hx hb dJ9_isLatin1_3 (by decide) (fun hc => ?_) (fun hc => ?_)
  · exact absurd hc (by decide)
  · refine lv_aload_n hx hb dJ9_isLatin1_6 rfl (lv_at hl 0 rfl) ?_
    obtain ⟨hg, hF⟩ := dx_gd_some hF
    have k1 := of_decide_eq_true hg
    refine cl_gi S V e0 k1 rfl (by decide) in_J10 1 (by decide) rfl q641 rfl dJ9_isLatin1_7 ?_
    refine lv_if_ne (tgt := 17) hx hb dJ9_isLatin1_10 (by decide) (fun hc => ?_) (fun hc => ?_)
    · replace hF := (if_neg hc).symm.trans hF
      refine lv_iconst (v := 0) hx hb dJ9_isLatin1_17 (by decide) ?_
      replace hF := Option.some.inj hF
      subst hF
      exact cl_ri S V hr hlocks rfl dJ9_isLatin1_18
    · replace hF := (if_pos hc).symm.trans hF
      refine lv_iconst (v := 1) hx hb dJ9_isLatin1_13 (by decide) ?_
      refine lv_goto (tgt := 18) hx hb dJ9_isLatin1_14 (by decide) ?_
      replace hF := Option.some.inj hF
      subst hF
      exact cl_ri S V hr hlocks rfl dJ9_isLatin1_18
theorem cd_J16_canEncode : yJ16_canEncode.cls ≠ "java/lang/invoke/MethodHandle" ∧ yJ16_canEncode.cls ≠ "java/lang/invoke/VarHandle" ∧ (parseMethodDescriptor yJ16_canEncode.desc).map (fun d => d.parameters.length) = some 1 := by decide +kernel
set_option maxHeartbeats 4000000 in
set_option maxRecDepth 100000 in
theorem cm_J16_canEncode (l : Launch) (p0 : Int32) (r : Bool) (hF : cl_J16_canEncode p0 = some r) : dx_Pi l yJ16_canEncode cJ16_canEncode 1 .boolean ({ frames := 0, cells := 0, slots := 0, locals := 0 }) [.int p0] (dx_bI r) := by
  refine dx_in RJ16 rfl (by decide) (Nat.le_of_ble_eq_true rfl) ?_
  intro p e s m below meth c ls S hr hlocks hv hl
  have hx := S.1
  have hb := S.2.1
  have hown := S.2.2.2.1
  have hts := S.2.2.2.2
  replace hl : lv_has ls 1 [(0, .int p0)] := hl
  unfold cl_J16_canEncode at hF
  refine lv_iload_n hx hb dJ16_canEncode_0 rfl (lv_at hl 0 rfl) ?_
  refine lv_sipush (v := 255) hx hb dJ16_canEncode_1 (by decide) ?_
  refine lv_icmp_gt (tgt := 11) hx hb dJ16_canEncode_4 (by decide) (fun hc => ?_) (fun hc => ?_)
  · replace hF := (if_pos hc).symm.trans hF
    refine lv_iconst (v := 0) hx hb dJ16_canEncode_11 (by decide) ?_
    replace hF := Option.some.inj hF
    subst hF
    exact dx_rPi S hr hlocks rfl dJ16_canEncode_12
  · replace hF := (if_neg hc).symm.trans hF
    refine lv_iconst (v := 1) hx hb dJ16_canEncode_7 (by decide) ?_
    refine lv_goto (tgt := 12) hx hb dJ16_canEncode_8 (by decide) ?_
    replace hF := Option.some.inj hF
    subst hF
    exact dx_rPi S hr hlocks rfl dJ16_canEncode_12
theorem cd_J9_append_2 : yJ9_append_2.cls ≠ "java/lang/invoke/MethodHandle" ∧ yJ9_append_2.cls ≠ "java/lang/invoke/VarHandle" ∧ (parseMethodDescriptor yJ9_append_2.desc).map (fun d => d.parameters.length) = some 1 := by decide +kernel
set_option maxHeartbeats 4000000 in
set_option maxRecDepth 100000 in
theorem cm_J9_append_2 (l : Launch) (D : va_G) (dA : Nat → ClassId) (ad0 : Nat → Nat) (A : Nat → Prop) (a0 : Nat) (o0 : Nat) (p0 : Int32) (σ0 : cl_S) (r : Nat) (σ' : cl_S) (e0 : cl_at ad0 σ0 a0 o0) (hF : cl_J9_append_2 o0 σ0 p0 = some (r, σ')) : cl_Cr l yJ9_append_2 cJ9_append_2 2 (.object "java/lang/AbstractStringBuilder") ({ frames := 4, cells := 1, slots := 160, locals := 91 }) D dA ad0 A [.ref a0, .int p0] σ0 r σ' := by
  refine cl_in RJ9 rfl (by decide) (Nat.le_of_ble_eq_true rfl) ?_
  intro p e s m below meth c ls S hr hlocks hini hv hl
  have hx := S.1
  have hb := S.2.1
  have hown := S.2.2.2.1
  have hts := S.2.2.2.2
  obtain ⟨hN, hK, hP, hD, hA, hZ⟩ := hv
  have V : cl_V D dA (ad0, cl_n σ0) ad0 A s.heap σ0 s s.heap [] := ⟨hN, hK, hP, hD, va_S.rf, hA, hZ, fun _ _ => rfl, Nat.le_refl _⟩
  obtain ⟨ad, V, e0⟩ : ∃ ad, cl_V D dA (ad0, cl_n σ0) ad A s.heap σ0 s s.heap [] ∧ cl_at ad σ0 a0 o0 := ⟨ad0, V, e0⟩
  replace hl : lv_has ls 2 [(0, .ref a0), (1, .int p0)] := hl
  unfold cl_J9_append_2 at hF
  refine lv_aload_n hx hb dJ9_append_2_0 rfl (lv_at hl 0 rfl) ?_
  refine lv_aload_n hx hb dJ9_append_2_1 rfl (lv_at hl 0 rfl) ?_
  obtain ⟨hg, hF⟩ := dx_gd_some hF
  have k1 := of_decide_eq_true hg
  refine cl_gi S V e0 k1 rfl (by decide) in_J10 3 (by decide) rfl q643 rfl dJ9_append_2_2 ?_
  refine lv_iconst (v := 1) hx hb dJ9_append_2_5 (by decide) ?_
  refine lv_iadd hx hb dJ9_append_2_6 ?_
  obtain ⟨σ2, h2c, hF⟩ := dx_b1_some hF
  refine cl_cv (va_runU (As := [.int ((cl_i σ0 o0 3) + (1 : Int32))]) S (cm_J9_ensureCapacityInternal l D dA _ A a0 o0 ((cl_i σ0 o0 3) + (1 : Int32)) σ0 _ e0 h2c) (cl_cwQ (owner := "java/lang/AbstractStringBuilder") (k := 1) hts q665 q2056 q667 q668 (va_Nw.use rfl (V.1.2.2.2.2.2.2.1.1 _ dw_8)) q667 q96 q668 (by decide) (by decide +kernel) ⟨Nat.le_of_ble_eq_true rfl, Nat.le_of_ble_eq_true rfl⟩) (cl_preV V [.int ((cl_i σ0 o0 3) + (1 : Int32))] e0 k1 rfl (by decide)) rfl rfl hl.1 rfl (lv_room (Nat.le_of_ble_eq_true rfl)) dJ9_append_2_7 ⟨Nat.le_of_ble_eq_true rfl, Nat.le_of_ble_eq_true rfl⟩) V (fun ad _ _ hag hle V => ?_)
  replace e0 := e0.mv hag hle
  refine lv_aload_n hx hb dJ9_append_2_10 rfl (lv_at hl 0 rfl) ?_
  obtain ⟨hg, hF⟩ := dx_gd_some hF
  have k4 := of_decide_eq_true hg
  obtain ⟨r3, h3c, hF⟩ := dx_b1_some hF
  refine cl_ci (va_runU (As := []) S (cm_J9_isLatin1 l D dA _ A a0 o0  σ2 _ e0 h3c) (cl_cwQ (owner := "java/lang/AbstractStringBuilder") (k := 0) hts q698 q700 q699 q702 (hts _ q701) q699 q96 q702 (by decide) (by decide +kernel) ⟨Nat.le_of_ble_eq_true rfl, Nat.le_of_ble_eq_true rfl⟩) (cl_preV V [] e0 k4 rfl (by decide)) rfl rfl hl.1 rfl (lv_room (Nat.le_of_ble_eq_true rfl)) dJ9_append_2_11 ⟨Nat.le_of_ble_eq_true rfl, Nat.le_of_ble_eq_true rfl⟩) V (fun ad _ _ hag hle V => ?_)
  replace e0 := e0.mv hag hle
  refine lv_if_eq (tgt := 45) hx hb dJ9_append_2_14 (by decide) (fun hc => ?_) (fun hc => ?_)
  · replace hF := dx_ib_f (dx_bI_0 hc) hF
    cases hF
  · replace hF := dx_ib_t (dx_bI_n hc) hF
    refine lv_iload_n hx hb dJ9_append_2_17 rfl (lv_at hl 1 rfl) ?_
    obtain ⟨r5, h5c, hF⟩ := dx_b1_some hF
    refine dx_cPi S [.int p0] (cm_J16_canEncode l p0 _ h5c) (va_cwS 1 hts (lw_S q779 q780 q103 q781) rfl rfl rfl cd_J16_canEncode ⟨Nat.le_of_ble_eq_true rfl, Nat.le_of_ble_eq_true rfl⟩) rfl rfl hl.1 (Nat.le_of_ble_eq_true rfl) dJ9_append_2_18 ⟨Nat.le_of_ble_eq_true rfl, Nat.le_of_ble_eq_true rfl⟩ ?_
    refine lv_if_eq (tgt := 45) hx hb dJ9_append_2_21 (by decide) (fun hc => ?_) (fun hc => ?_)
    · replace hF := dx_ib_f (dx_bI_0 hc) hF
      cases hF
    · replace hF := dx_ib_t (dx_bI_n hc) hF
      refine lv_aload_n hx hb dJ9_append_2_24 rfl (lv_at hl 0 rfl) ?_
      obtain ⟨hg, hF⟩ := dx_gd_some hF
      refine cl_gr S V e0 k4 rfl (by decide) in_J10 0 (by decide) rfl q640 rfl dJ9_append_2_25 (of_decide_eq_true hg) (fun bb6 ee6 => ?_)
      refine lv_aload_n hx hb dJ9_append_2_28 rfl (lv_at hl 0 rfl) ?_
      refine lv_dup hx hb dJ9_append_2_29 rfl ?_
      refine cl_gi S V e0 k4 rfl (by decide) in_J10 3 (by decide) rfl q643 rfl dJ9_append_2_30 ?_
      refine lv_dup_x1 hx hb dJ9_append_2_33 rfl rfl ?_
      refine lv_iconst (v := 1) hx hb dJ9_append_2_34 (by decide) ?_
      refine lv_iadd hx hb dJ9_append_2_35 ?_
      refine cl_pi S V e0 k4 rfl (by decide) in_J10 tyJ10 tyJ10_ok nmJ10 3 (by decide) rfl q643 rfl rfl rfl dJ9_append_2_36 (fun _ _ V => ?_)
      obtain ⟨σ7, eσ7⟩ : ∃ x, x = (cl_wi σ2 o0 3 ((cl_i σ2 o0 3) + (1 : Int32))) := ⟨_, rfl⟩
      rw [← eσ7] at V
      replace hF := dx_let_e eσ7 hF
      replace ee6 : cl_at ad σ7 bb6 (cl_r σ2 o0 0) := by rw [eσ7]; exact ee6
      replace e0 : cl_at ad σ7 a0 o0 := by rw [eσ7]; exact e0
      replace k4 : cl_k σ7 o0 = 17 := by rw [eσ7]; exact k4
      refine lv_iload_n hx hb dJ9_append_2_39 rfl (lv_at hl 1 rfl) ?_
      refine lv_i2b hx hb dJ9_append_2_40 rfl ?_
      obtain ⟨hg, hF⟩ := dx_gd_some hF
      have k8 := of_decide_eq_true hg
      obtain ⟨hg, hF⟩ := dx_gd_some hF
      refine cl_stb S V ee6 k8 (dx_inb_in hg) dJ9_append_2_41 (fun _ _ V => ?_)
      obtain ⟨σ9, eσ9⟩ : ∃ x, x = (cl_wi σ7 (cl_r σ2 o0 0) (cl_i σ2 o0 3).toNatClampNeg p0.toInt8.toInt32.toInt8.toInt32) := ⟨_, rfl⟩
      rw [← eσ9] at V
      replace hF := dx_let_e eσ9 hF
      replace e0 : cl_at ad σ9 a0 o0 := by rw [eσ9]; exact e0
      replace k4 : cl_k σ9 o0 = 17 := by rw [eσ9]; exact k4
      replace k8 : cl_k σ9 (cl_r σ2 o0 0) = 21 := by rw [eσ9]; exact k8
      refine lv_goto (tgt := 75) hx hb dJ9_append_2_42 (by decide) ?_
      refine lv_aload_n hx hb dJ9_append_2_75 rfl (lv_at hl 0 rfl) ?_
      refine W.widen (k := 1) (n := 160) (by first | omega | (dsimp only; omega)) (by first | omega | (dsimp only; omega)) ?_
      obtain ⟨hF1, hF2⟩ := dx_r2 hF
      subst hF1
      subst hF2
      exact cl_rr S V hr (Or.inl ⟨_, rfl⟩) hlocks e0 dJ9_append_2_76
theorem cd_J10_append_2 : yJ10_append_2.cls ≠ "java/lang/invoke/MethodHandle" ∧ yJ10_append_2.cls ≠ "java/lang/invoke/VarHandle" ∧ (parseMethodDescriptor yJ10_append_2.desc).map (fun d => d.parameters.length) = some 1 := by decide +kernel
set_option maxHeartbeats 4000000 in
set_option maxRecDepth 100000 in
theorem cm_J10_append_2 (l : Launch) (D : va_G) (dA : Nat → ClassId) (ad0 : Nat → Nat) (A : Nat → Prop) (a0 : Nat) (o0 : Nat) (p0 : Int32) (σ0 : cl_S) (r : Nat) (σ' : cl_S) (e0 : cl_at ad0 σ0 a0 o0) (hF : cl_J10_append_2 o0 σ0 p0 = some (r, σ')) : cl_Cr l yJ10_append_2 cJ10_append_2 2 (.object "java/lang/StringBuilder") ({ frames := 5, cells := 1, slots := 160, locals := 112 }) D dA ad0 A [.ref a0, .int p0] σ0 r σ' := by
  refine cl_in RJ10 rfl (by decide) (Nat.le_of_ble_eq_true rfl) ?_
  intro p e s m below meth c ls S hr hlocks hini hv hl
  have hx := S.1
  have hb := S.2.1
  have hown := S.2.2.2.1
  have hts := S.2.2.2.2
  obtain ⟨hN, hK, hP, hD, hA, hZ⟩ := hv
  have V : cl_V D dA (ad0, cl_n σ0) ad0 A s.heap σ0 s s.heap [] := ⟨hN, hK, hP, hD, va_S.rf, hA, hZ, fun _ _ => rfl, Nat.le_refl _⟩
  obtain ⟨ad, V, e0⟩ : ∃ ad, cl_V D dA (ad0, cl_n σ0) ad A s.heap σ0 s s.heap [] ∧ cl_at ad σ0 a0 o0 := ⟨ad0, V, e0⟩
  replace hl : lv_has ls 2 [(0, .ref a0), (1, .int p0)] := hl
  unfold cl_J10_append_2 at hF
  refine lv_aload_n hx hb dJ10_append_2_0 rfl (lv_at hl 0 rfl) ?_
  refine lv_iload_n hx hb dJ10_append_2_1 rfl (lv_at hl 1 rfl) ?_
  obtain ⟨hg, hF⟩ := dx_gd_some hF
  have k2 := of_decide_eq_true hg
  obtain ⟨r1, σ1, h1c, hF⟩ := dx_b2_some hF
  obtain ⟨hg, hF⟩ := dx_gd_some hF
  refine cl_cr (cl_runSU (n := 1) (V.2.1.1 17 _ rfl).2 (As := [.int p0]) S (cm_J9_append_2 l D dA _ A a0 o0 p0 σ0 _ _ e0 h1c) rfl rfl q776 q2061 q652 (Or.inl rfl) q777 q96 q778 rfl (by decide +kernel) ⟨Nat.le_of_ble_eq_true rfl, Nat.le_of_ble_eq_true rfl⟩ (cl_preV V [.int p0] e0 k2 rfl (by decide)) rfl rfl hl.1 rfl (lv_room (Nat.le_of_ble_eq_true rfl)) dJ10_append_2_2 ⟨Nat.le_of_ble_eq_true rfl, Nat.le_of_ble_eq_true rfl⟩) V (of_decide_eq_true hg) (fun bb1 ad _ _ hag hle ee1 V => ?_)
  replace e0 := e0.mv hag hle
  refine lv_pop hx hb dJ10_append_2_5 rfl ?_
  refine lv_aload_n hx hb dJ10_append_2_6 rfl (lv_at hl 0 rfl) ?_
  refine W.widen (k := 1) (n := 160) (by first | omega | (dsimp only; omega)) (by first | omega | (dsimp only; omega)) ?_
  obtain ⟨hF1, hF2⟩ := dx_r2 hF
  subst hF1
  subst hF2
  exact cl_rr S V hr (Or.inl ⟨_, rfl⟩) hlocks e0 dJ10_append_2_7
theorem cd_J9_getValue : yJ9_getValue.cls ≠ "java/lang/invoke/MethodHandle" ∧ yJ9_getValue.cls ≠ "java/lang/invoke/VarHandle" ∧ (parseMethodDescriptor yJ9_getValue.desc).map (fun d => d.parameters.length) = some 0 := by decide +kernel
set_option maxHeartbeats 4000000 in
set_option maxRecDepth 100000 in
theorem cm_J9_getValue (l : Launch) (D : va_G) (dA : Nat → ClassId) (ad0 : Nat → Nat) (A : Nat → Prop) (a0 : Nat) (o0 : Nat)  (σ0 : cl_S) (r : Nat) (e0 : cl_at ad0 σ0 a0 o0) (hF : cl_J9_getValue o0 σ0 = some r) : cl_Cr l yJ9_getValue cJ9_getValue 1 (.array .byte) ({ frames := 0, cells := 0, slots := 0, locals := 0 }) D dA ad0 A [.ref a0] σ0 r σ0 := by
  refine cl_in RJ9 rfl (by decide) (Nat.le_of_ble_eq_true rfl) ?_
  intro p e s m below meth c ls S hr hlocks hini hv hl
  have hx := S.1
  have hb := S.2.1
  have hown := S.2.2.2.1
  have hts := S.2.2.2.2
  obtain ⟨hN, hK, hP, hD, hA, hZ⟩ := hv
  have V : cl_V D dA (ad0, cl_n σ0) ad0 A s.heap σ0 s s.heap [] := ⟨hN, hK, hP, hD, va_S.rf, hA, hZ, fun _ _ => rfl, Nat.le_refl _⟩
  obtain ⟨ad, V, e0⟩ : ∃ ad, cl_V D dA (ad0, cl_n σ0) ad A s.heap σ0 s s.heap [] ∧ cl_at ad σ0 a0 o0 := ⟨ad0, V, e0⟩
  replace hl : lv_has ls 1 [(0, .ref a0)] := hl
  unfold cl_J9_getValue at hF
  refine lv_aload_n hx hb dJ9_getValue_0 rfl (lv_at hl 0 rfl) ?_
  obtain ⟨hg, hF⟩ := dx_gd_some hF
  have k1 := of_decide_eq_true hg
  obtain ⟨hg, hF⟩ := dx_gd_some hF
  refine cl_gr S V e0 k1 rfl (by decide) in_J10 0 (by decide) rfl q640 rfl dJ9_getValue_1 (of_decide_eq_true hg) (fun bb2 ee2 => ?_)
  replace hF := Option.some.inj hF
  subst hF
  exact cl_rr S V hr (Or.inr ⟨_, rfl⟩) hlocks ee2 dJ9_getValue_4
theorem cd_J9_length : yJ9_length.cls ≠ "java/lang/invoke/MethodHandle" ∧ yJ9_length.cls ≠ "java/lang/invoke/VarHandle" ∧ (parseMethodDescriptor yJ9_length.desc).map (fun d => d.parameters.length) = some 0 := by decide +kernel
set_option maxHeartbeats 4000000 in
set_option maxRecDepth 100000 in
theorem cm_J9_length (l : Launch) (D : va_G) (dA : Nat → ClassId) (ad0 : Nat → Nat) (A : Nat → Prop) (a0 : Nat) (o0 : Nat)  (σ0 : cl_S) (r : Int32) (e0 : cl_at ad0 σ0 a0 o0) (hF : cl_J9_length o0 σ0 = some r) : cl_Ci l yJ9_length cJ9_length 1 .int ({ frames := 0, cells := 0, slots := 0, locals := 0 }) D dA ad0 A [.ref a0] σ0 r σ0 := by
  refine cl_in RJ9 rfl (by decide) (Nat.le_of_ble_eq_true rfl) ?_
  intro p e s m below meth c ls S hr hlocks hini hv hl
  have hx := S.1
  have hb := S.2.1
  have hown := S.2.2.2.1
  have hts := S.2.2.2.2
  obtain ⟨hN, hK, hP, hD, hA, hZ⟩ := hv
  have V : cl_V D dA (ad0, cl_n σ0) ad0 A s.heap σ0 s s.heap [] := ⟨hN, hK, hP, hD, va_S.rf, hA, hZ, fun _ _ => rfl, Nat.le_refl _⟩
  obtain ⟨ad, V, e0⟩ : ∃ ad, cl_V D dA (ad0, cl_n σ0) ad A s.heap σ0 s s.heap [] ∧ cl_at ad σ0 a0 o0 := ⟨ad0, V, e0⟩
  replace hl : lv_has ls 1 [(0, .ref a0)] := hl
  unfold cl_J9_length at hF
  refine lv_aload_n hx hb dJ9_length_0 rfl (lv_at hl 0 rfl) ?_
  obtain ⟨hg, hF⟩ := dx_gd_some hF
  have k1 := of_decide_eq_true hg
  refine cl_gi S V e0 k1 rfl (by decide) in_J10 3 (by decide) rfl q643 rfl dJ9_length_1 ?_
  replace hF := Option.some.inj hF
  subst hF
  exact cl_ri S V hr hlocks rfl dJ9_length_4
theorem cd_J10_length : yJ10_length.cls ≠ "java/lang/invoke/MethodHandle" ∧ yJ10_length.cls ≠ "java/lang/invoke/VarHandle" ∧ (parseMethodDescriptor yJ10_length.desc).map (fun d => d.parameters.length) = some 0 := by decide +kernel
set_option maxHeartbeats 4000000 in
set_option maxRecDepth 100000 in
theorem cm_J10_length (l : Launch) (D : va_G) (dA : Nat → ClassId) (ad0 : Nat → Nat) (A : Nat → Prop) (a0 : Nat) (o0 : Nat)  (σ0 : cl_S) (r : Int32) (e0 : cl_at ad0 σ0 a0 o0) (hF : cl_J10_length o0 σ0 = some r) : cl_Ci l yJ10_length cJ10_length 1 .int ({ frames := 1, cells := 0, slots := 0, locals := 20 }) D dA ad0 A [.ref a0] σ0 r σ0 := by
  refine cl_in RJ10 rfl (by decide) (Nat.le_of_ble_eq_true rfl) ?_
  intro p e s m below meth c ls S hr hlocks hini hv hl
  have hx := S.1
  have hb := S.2.1
  have hown := S.2.2.2.1
  have hts := S.2.2.2.2
  obtain ⟨hN, hK, hP, hD, hA, hZ⟩ := hv
  have V : cl_V D dA (ad0, cl_n σ0) ad0 A s.heap σ0 s s.heap [] := ⟨hN, hK, hP, hD, va_S.rf, hA, hZ, fun _ _ => rfl, Nat.le_refl _⟩
  obtain ⟨ad, V, e0⟩ : ∃ ad, cl_V D dA (ad0, cl_n σ0) ad A s.heap σ0 s s.heap [] ∧ cl_at ad σ0 a0 o0 := ⟨ad0, V, e0⟩
  replace hl : lv_has ls 1 [(0, .ref a0)] := hl
  unfold cl_J10_length at hF
  refine lv_aload_n hx hb dJ10_length_0 rfl (lv_at hl 0 rfl) ?_
  obtain ⟨hg, hF⟩ := dx_gd_some hF
  have k2 := of_decide_eq_true hg
  obtain ⟨r1, h1c, hF⟩ := dx_b1_some hF
  refine cl_ci (cl_runSU (n := 0) (V.2.1.1 17 _ rfl).2 (As := []) S (cm_J9_length l D dA _ A a0 o0  σ0 _ e0 h1c) rfl rfl q817 q813 q652 (Or.inl rfl) q812 q96 q818 rfl (by decide +kernel) ⟨Nat.le_of_ble_eq_true rfl, Nat.le_of_ble_eq_true rfl⟩ (cl_preV V [] e0 k2 rfl (by decide)) rfl rfl hl.1 rfl (lv_room (Nat.le_of_ble_eq_true rfl)) dJ10_length_1 ⟨Nat.le_of_ble_eq_true rfl, Nat.le_of_ble_eq_true rfl⟩) V (fun ad _ _ hag hle V => ?_)
  replace e0 := e0.mv hag hle
  replace hF := Option.some.inj hF
  subst hF
  exact cl_ri S V hr hlocks rfl dJ10_length_4
theorem cd_J14_checkLength : yJ14_checkLength.cls ≠ "java/lang/invoke/MethodHandle" ∧ yJ14_checkLength.cls ≠ "java/lang/invoke/VarHandle" ∧ (parseMethodDescriptor yJ14_checkLength.desc).map (fun d => d.parameters.length) = some 2 := by decide +kernel
set_option maxHeartbeats 4000000 in
set_option maxRecDepth 100000 in
theorem cm_J14_checkLength (l : Launch) (D : va_G) (dA : Nat → ClassId) (ad0 : Nat → Nat) (A : Nat → Prop)   (p0 : Int32) (p1 : Int32) (σ0 : cl_S) (σ' : cl_S)  (hF : cl_J14_checkLength σ0 p0 p1 = some σ') : cl_Cv l yJ14_checkLength cJ14_checkLength 2 ({ frames := 0, cells := 0, slots := 0, locals := 0 }) D dA ad0 A [.int p0, .int p1] σ0 σ' := by
  refine cl_in RJ14 rfl (by decide) (Nat.le_of_ble_eq_true rfl) ?_
  intro p e s m below meth c ls S hr hlocks hini hv hl
  have hx := S.1
  have hb := S.2.1
  have hown := S.2.2.2.1
  have hts := S.2.2.2.2
  obtain ⟨hN, hK, hP, hD, hA, hZ⟩ := hv
  have V : cl_V D dA (ad0, cl_n σ0) ad0 A s.heap σ0 s s.heap [] := ⟨hN, hK, hP, hD, va_S.rf, hA, hZ, fun _ _ => rfl, Nat.le_refl _⟩
  obtain ⟨ad, V⟩ : ∃ ad, cl_V D dA (ad0, cl_n σ0) ad A s.heap σ0 s s.heap [] := ⟨ad0, V⟩
  replace hl : lv_has ls 2 [(0, .int p0), (1, .int p1)] := hl
  unfold cl_J14_checkLength at hF
  refine lv_iload_n hx hb dJ14_checkLength_0 rfl (lv_at hl 1 rfl) ?_
  refine lv_iload_n hx hb dJ14_checkLength_1 rfl (lv_at hl 0 rfl) ?_
  refine lv_icmp_ge (tgt := 37) hx hb dJ14_checkLength_2 (by decide) (fun hc => ?_) (fun hc => ?_)
  · replace hF := (if_pos hc).symm.trans hF
    replace hF := Option.some.inj hF
    subst hF
    exact cl_rv S V hr hlocks dJ14_checkLength_37
  · replace hF := (if_neg hc).symm.trans hF
    cases hF
theorem cd_J14_copyOfRangeByte : yJ14_copyOfRangeByte.cls ≠ "java/lang/invoke/MethodHandle" ∧ yJ14_copyOfRangeByte.cls ≠ "java/lang/invoke/VarHandle" ∧ (parseMethodDescriptor yJ14_copyOfRangeByte.desc).map (fun d => d.parameters.length) = some 3 := by decide +kernel
set_option maxHeartbeats 4000000 in
set_option maxRecDepth 100000 in
theorem cm_J14_copyOfRangeByte (l : Launch) (D : va_G) (dA : Nat → ClassId) (ad0 : Nat → Nat) (A : Nat → Prop) (a0 : Nat) (o0 : Nat) (p1 : Int32) (p2 : Int32) (σ0 : cl_S) (r : Nat) (σ' : cl_S) (e0 : cl_at ad0 σ0 a0 o0) (hF : cl_J14_copyOfRangeByte o0 σ0 p1 p2 = some (r, σ')) : cl_Cr l yJ14_copyOfRangeByte cJ14_copyOfRangeByte 5 (.array .byte) ({ frames := 1, cells := 1, slots := 16, locals := 26 }) D dA ad0 A [.ref a0, .int p1, .int p2] σ0 r σ' := by
  refine cl_in RJ14 rfl (by decide) (Nat.le_of_ble_eq_true rfl) ?_
  intro p e s m below meth c ls S hr hlocks hini hv hl
  have hx := S.1
  have hb := S.2.1
  have hown := S.2.2.2.1
  have hts := S.2.2.2.2
  obtain ⟨hN, hK, hP, hD, hA, hZ⟩ := hv
  have V : cl_V D dA (ad0, cl_n σ0) ad0 A s.heap σ0 s s.heap [] := ⟨hN, hK, hP, hD, va_S.rf, hA, hZ, fun _ _ => rfl, Nat.le_refl _⟩
  obtain ⟨ad, V, e0⟩ : ∃ ad, cl_V D dA (ad0, cl_n σ0) ad A s.heap σ0 s s.heap [] ∧ cl_at ad σ0 a0 o0 := ⟨ad0, V, e0⟩
  replace hl : lv_has ls 5 [(0, .ref a0), (1, .int p1), (2, .int p2)] := hl
  unfold cl_J14_copyOfRangeByte at hF
  refine lv_iload_n hx hb dJ14_copyOfRangeByte_0 rfl (lv_at hl 1 rfl) ?_
  refine lv_iload_n hx hb dJ14_copyOfRangeByte_1 rfl (lv_at hl 2 rfl) ?_
  obtain ⟨σ1, h1c, hF⟩ := dx_b1_some hF
  refine cl_cv (va_runS (As := [.int p1, .int p2]) S (cm_J14_checkLength l D dA _ A   p1 p2 σ0 _  h1c) (va_cwS 2 hts (lw_S q826 q827 q101 q828) rfl rfl rfl cd_J14_checkLength ⟨Nat.le_of_ble_eq_true rfl, Nat.le_of_ble_eq_true rfl⟩) (cl_preS V [.int p1, .int p2]) rfl rfl hl.1 rfl (lv_room (Nat.le_of_ble_eq_true rfl)) dJ14_copyOfRangeByte_2 ⟨Nat.le_of_ble_eq_true rfl, Nat.le_of_ble_eq_true rfl⟩) V (fun ad _ _ hag hle V => ?_)
  replace e0 := e0.mv hag hle
  refine lv_iload_n hx hb dJ14_copyOfRangeByte_5 rfl (lv_at hl 2 rfl) ?_
  refine lv_iload_n hx hb dJ14_copyOfRangeByte_6 rfl (lv_at hl 1 rfl) ?_
  refine lv_isub hx hb dJ14_copyOfRangeByte_7 ?_
  refine lv_istore_n (lv' := [(3, .int (p2 - p1)), (0, .ref a0), (1, .int p1), (2, .int p2)]) hx hb dJ14_copyOfRangeByte_8 rfl hl (by decide) rfl (fun ls hl => ?_)
  refine lv_iload_n hx hb dJ14_copyOfRangeByte_9 rfl (lv_at hl 0 rfl) ?_
  obtain ⟨hg, hF⟩ := dx_gd_some hF
  replace hg := of_decide_eq_true hg
  refine cl_newaM 1 21 16 (atype := .byte) S V (by decide) (by decide) (by decide) rfl rfl (fun _ _ h => h) q206 rfl hg (Nat.le_of_ble_eq_true rfl) (by decide) (Nat.le_of_ble_eq_true rfl) (Nat.le_of_ble_eq_true rfl) dJ14_copyOfRangeByte_10 (fun bb2 ad _ hag ee2 V => ?_)
  replace e0 := cl_at.nw 21 ((p2 - p1).toNatClampNeg) e0 hag
  have k2 : cl_k (cl_nw σ1 21 ((p2 - p1).toNatClampNeg)) (cl_n σ1 + 1) = 21 := cl_k_nw
  refine lv_astore (lv' := [(4, .ref bb2), (3, .int (p2 - p1)), (0, .ref a0), (1, .int p1), (2, .int p2)]) hx hb dJ14_copyOfRangeByte_12 hl (by decide) rfl (fun ls hl => ?_)
  refine lv_aload_n hx hb dJ14_copyOfRangeByte_14 rfl (lv_at hl 2 rfl) ?_
  refine lv_iload_n hx hb dJ14_copyOfRangeByte_15 rfl (lv_at hl 3 rfl) ?_
  refine lv_aload hx hb dJ14_copyOfRangeByte_16 (lv_at hl 0 rfl) ?_
  refine lv_iconst (v := 0) hx hb dJ14_copyOfRangeByte_18 (by decide) ?_
  refine lv_aload_n hx hb dJ14_copyOfRangeByte_19 rfl (lv_at hl 2 rfl) ?_
  obtain ⟨hg, hF⟩ := dx_gd_some hF
  have k3 := of_decide_eq_true hg
  refine cl_lenS S V e0 k3 dJ14_copyOfRangeByte_20 ?_
  refine lv_iload_n hx hb dJ14_copyOfRangeByte_21 rfl (lv_at hl 3 rfl) ?_
  refine lv_isub hx hb dJ14_copyOfRangeByte_22 ?_
  refine lv_iload_n hx hb dJ14_copyOfRangeByte_23 rfl (lv_at hl 1 rfl) ?_
  refine va_mmin hx hb (by rw [hl.1]; exact S.2.2.1) hown (hts _ q694) (hts _ q695) (hts _ q100) (hts _ q696) (Nat.le_of_ble_eq_true rfl) (Nat.le_of_ble_eq_true rfl) (Nat.le_of_ble_eq_true rfl) (Nat.le_of_ble_eq_true rfl) dJ14_copyOfRangeByte_24 ?_
  obtain ⟨hg1, hF⟩ := dx_gd_some hF
  obtain ⟨hg2, hF⟩ := dx_gd_some hF
  refine cl_cpb S V e0 k3 ee2 k2 hl.1 q697 q500 q499 q93 hg1 hg2 (Nat.le_of_ble_eq_true rfl) (Nat.le_of_ble_eq_true rfl) dJ14_copyOfRangeByte_27 (fun _ _ V => ?_)
  obtain ⟨σ4, eσ4⟩ : ∃ x, x = (cl_cp (cl_nw σ1 21 ((p2 - p1).toNatClampNeg)) o0 (cl_n σ1 + 1) p1 (0 : Int32) (if (p2 - p1) < ((Int32.ofNat (cl_l (cl_nw σ1 21 ((p2 - p1).toNatClampNeg)) o0)) - p1) then (p2 - p1) else ((Int32.ofNat (cl_l (cl_nw σ1 21 ((p2 - p1).toNatClampNeg)) o0)) - p1))) := ⟨_, rfl⟩
  rw [← eσ4] at V
  replace hF := dx_let_e eσ4 hF
  replace e0 : cl_at ad σ4 a0 o0 := by rw [eσ4]; exact e0
  replace ee2 : cl_at ad σ4 bb2 (cl_n σ1 + 1) := by rw [eσ4]; exact ee2
  replace k2 : cl_k σ4 (cl_n σ1 + 1) = 21 := by rw [eσ4]; exact k2
  replace k3 : cl_k σ4 o0 = 21 ∨ cl_k σ4 o0 = 23 := by rw [eσ4]; exact k3
  refine lv_aload hx hb dJ14_copyOfRangeByte_30 (lv_at hl 0 rfl) ?_
  refine W.widen (k := 1) (n := 16) (by first | omega | (dsimp only; omega)) (by first | omega | (dsimp only; omega)) ?_
  obtain ⟨hF1, hF2⟩ := dx_r2 hF
  subst hF1
  subst hF2
  exact cl_rr S V hr (Or.inr ⟨_, rfl⟩) hlocks ee2 dJ14_copyOfRangeByte_32
theorem cd_J14_copyOfRange : yJ14_copyOfRange.cls ≠ "java/lang/invoke/MethodHandle" ∧ yJ14_copyOfRange.cls ≠ "java/lang/invoke/VarHandle" ∧ (parseMethodDescriptor yJ14_copyOfRange.desc).map (fun d => d.parameters.length) = some 3 := by decide +kernel
set_option maxHeartbeats 4000000 in
set_option maxRecDepth 100000 in
theorem cm_J14_copyOfRange (l : Launch) (D : va_G) (dA : Nat → ClassId) (ad0 : Nat → Nat) (A : Nat → Prop) (a0 : Nat) (o0 : Nat) (p1 : Int32) (p2 : Int32) (σ0 : cl_S) (r : Nat) (σ' : cl_S) (e0 : cl_at ad0 σ0 a0 o0) (hF : cl_J14_copyOfRange o0 σ0 p1 p2 = some (r, σ')) : cl_Cr l yJ14_copyOfRange cJ14_copyOfRange 3 (.array .byte) ({ frames := 2, cells := 1, slots := 16, locals := 50 }) D dA ad0 A [.ref a0, .int p1, .int p2] σ0 r σ' := by
  refine cl_in RJ14 rfl (by decide) (Nat.le_of_ble_eq_true rfl) ?_
  intro p e s m below meth c ls S hr hlocks hini hv hl
  have hx := S.1
  have hb := S.2.1
  have hown := S.2.2.2.1
  have hts := S.2.2.2.2
  obtain ⟨hN, hK, hP, hD, hA, hZ⟩ := hv
  have V : cl_V D dA (ad0, cl_n σ0) ad0 A s.heap σ0 s s.heap [] := ⟨hN, hK, hP, hD, va_S.rf, hA, hZ, fun _ _ => rfl, Nat.le_refl _⟩
  obtain ⟨ad, V, e0⟩ : ∃ ad, cl_V D dA (ad0, cl_n σ0) ad A s.heap σ0 s s.heap [] ∧ cl_at ad σ0 a0 o0 := ⟨ad0, V, e0⟩
  replace hl : lv_has ls 3 [(0, .ref a0), (1, .int p1), (2, .int p2)] := hl
  unfold cl_J14_copyOfRange at hF
  have hJ10 : ∀ (σ : cl_S) (v1 : Int32) (v2 : Int32) (ad : Nat → Nat) (H : Heap) (locs : List Loc) (ls : Array Slot), cl_J14_copyOfRange_J10 o0 σ v1 v2 = some (r, σ') → cl_at ad σ a0 o0 → cl_V D dA (ad0, cl_n σ0) ad A s.heap σ s H locs → lv_has ls 3 [(0, .ref a0), (1, .int v1), (2, .int v2)] → W p l e ({ frames := 2, cells := 1, slots := 16, locals := 50 }) s m ([.ref a0, .int p1, .int p2] : List Value).toArray below meth c H locs 0 0 (MQ below (cl_Qr D dA ad0 A σ0 σ' r) ([.ref a0, .int p1, .int p2] : List Value).toArray s 1 16 A) (F0 m 10 ls []) := by
    intro σ v1 v2 ad H locs ls hF e0 V hl
    unfold cl_J14_copyOfRange_J10 at hF
    refine lv_aload_n hx hb dJ14_copyOfRange_10 rfl (lv_at hl 0 rfl) ?_
    refine lv_iload_n hx hb dJ14_copyOfRange_11 rfl (lv_at hl 1 rfl) ?_
    refine lv_iload_n hx hb dJ14_copyOfRange_12 rfl (lv_at hl 2 rfl) ?_
    obtain ⟨r1, σ1, h1c, hF⟩ := dx_b2_some hF
    obtain ⟨hg, hF⟩ := dx_gd_some hF
    refine cl_cr (va_runS (As := [.ref a0, .int v1, .int v2]) S (cm_J14_copyOfRangeByte l D dA _ A a0 o0 v1 v2 σ _ _ e0 h1c) (va_cwS 3 hts (lw_S q823 q824 q101 q825) rfl rfl rfl cd_J14_copyOfRangeByte ⟨Nat.le_of_ble_eq_true rfl, Nat.le_of_ble_eq_true rfl⟩) (cl_preS V [.ref a0, .int v1, .int v2]) rfl rfl hl.1 rfl (lv_room (Nat.le_of_ble_eq_true rfl)) dJ14_copyOfRange_13 ⟨Nat.le_of_ble_eq_true rfl, Nat.le_of_ble_eq_true rfl⟩) V (of_decide_eq_true hg) (fun bb1 ad _ _ hag hle ee1 V => ?_)
    replace e0 := e0.mv hag hle
    refine W.widen (k := 1) (n := 16) (by first | omega | (dsimp only; omega)) (by first | omega | (dsimp only; omega)) ?_
    obtain ⟨hF1, hF2⟩ := dx_r2 hF
    subst hF1
    subst hF2
    exact cl_rr S V hr (Or.inr ⟨_, rfl⟩) hlocks ee1 dJ14_copyOfRange_16
  refine lv_iload_n hx hb dJ14_copyOfRange_0 rfl (lv_at hl 1 rfl) ?_
  refine lv_if_ne (tgt := 10) hx hb dJ14_copyOfRange_1 (by decide) (fun hc => ?_) (fun hc => ?_)
  · replace hF := (if_neg hc).symm.trans hF
    refine W.widen (k := 0) (n := 0) (by first | omega | (dsimp only; omega)) (by first | omega | (dsimp only; omega)) ?_
    exact hJ10 σ0 p1 p2 _ _ _ _ hF e0 V (lv_sub hl [0, 1, 2] rfl)
  · replace hF := (if_pos hc).symm.trans hF
    refine lv_iload_n hx hb dJ14_copyOfRange_4 rfl (lv_at hl 2 rfl) ?_
    refine lv_aload_n hx hb dJ14_copyOfRange_5 rfl (lv_at hl 0 rfl) ?_
    obtain ⟨hg, hF⟩ := dx_gd_some hF
    have k2 := of_decide_eq_true hg
    refine cl_lenS S V e0 k2 dJ14_copyOfRange_6 ?_
    refine lv_icmp_eq (tgt := 17) hx hb dJ14_copyOfRange_7 (by decide) (fun hc => ?_) (fun hc => ?_)
    · replace hF := (if_pos hc).symm.trans hF
      cases hF
    · replace hF := (if_neg hc).symm.trans hF
      refine W.widen (k := 0) (n := 0) (by first | omega | (dsimp only; omega)) (by first | omega | (dsimp only; omega)) ?_
      exact hJ10 σ0 p1 p2 _ _ _ _ hF e0 V (lv_sub hl [0, 1, 2] rfl)
theorem cd_J4_init_2 : yJ4_init_2.cls ≠ "java/lang/invoke/MethodHandle" ∧ yJ4_init_2.cls ≠ "java/lang/invoke/VarHandle" ∧ (parseMethodDescriptor yJ4_init_2.desc).map (fun d => d.parameters.length) = some 2 := by decide +kernel
set_option maxHeartbeats 4000000 in
set_option maxRecDepth 100000 in
theorem cm_J4_init_2 (l : Launch) (D : va_G) (dA : Nat → ClassId) (ad0 : Nat → Nat) (A : Nat → Prop) (a0 : Nat) (a1 : Nat) (o0 : Nat) (o1 : Nat)  (σ0 : cl_S) (σ' : cl_S) (e0 : cl_at ad0 σ0 a0 o0) (e1 : cl_at ad0 σ0 a1 o1) (hF : cl_J4_init_2 o0 o1 σ0 = some σ') : cl_Cv l yJ4_init_2 cJ4_init_2 5 ({ frames := 3, cells := 1, slots := 16, locals := 72 }) D dA ad0 A [.ref a0, .ref a1, .null] σ0 σ' := by
  refine cl_in RJ4 rfl (by decide) (Nat.le_of_ble_eq_true rfl) ?_
  intro p e s m below meth c ls S hr hlocks hini hv hl
  have hx := S.1
  have hb := S.2.1
  have hown := S.2.2.2.1
  have hts := S.2.2.2.2
  obtain ⟨hN, hK, hP, hD, hA, hZ⟩ := hv
  have V : cl_V D dA (ad0, cl_n σ0) ad0 A s.heap σ0 s s.heap [] := ⟨hN, hK, hP, hD, va_S.rf, hA, hZ, fun _ _ => rfl, Nat.le_refl _⟩
  obtain ⟨ad, V, e0, e1⟩ : ∃ ad, cl_V D dA (ad0, cl_n σ0) ad A s.heap σ0 s s.heap [] ∧ cl_at ad σ0 a0 o0 ∧ cl_at ad σ0 a1 o1 := ⟨ad0, V, e0, e1⟩
  replace hl : lv_has ls 5 [(0, .ref a0), (1, .ref a1), (2, .null)] := hl
  unfold cl_J4_init_2 at hF
  refine lv_aload_n hx hb dJ4_init_2_0 rfl (lv_at hl 0 rfl) ?_
  refine W.objInit hx hb hown (hts _ q805) (hts _ q123) (hts _ q124) rfl (by rw [S.2.2.1]; exact hl.1) rfl dJ4_init_2_1 (Nat.le_of_ble_eq_true rfl) (Nat.le_of_ble_eq_true rfl) ?_
  refine lv_aload_n hx hb dJ4_init_2_4 rfl (lv_at hl 1 rfl) ?_
  obtain ⟨hg, hF⟩ := dx_gd_some hF
  have k2 := of_decide_eq_true hg
  obtain ⟨r1, h1c, hF⟩ := dx_b1_some hF
  obtain ⟨hg, hF⟩ := dx_gd_some hF
  refine cl_cr (va_runU (As := []) S (cm_J9_getValue l D dA _ A a1 o1  σ0 _ e1 h1c) (cl_cwQ (owner := "java/lang/AbstractStringBuilder") (k := 0) hts q806 q808 q807 q810 (hts _ q809) q807 q96 q810 (by decide) (by decide +kernel) ⟨Nat.le_of_ble_eq_true rfl, Nat.le_of_ble_eq_true rfl⟩) (cl_preV V [] e1 k2 rfl (by decide)) rfl rfl hl.1 rfl (lv_room (Nat.le_of_ble_eq_true rfl)) dJ4_init_2_5 ⟨Nat.le_of_ble_eq_true rfl, Nat.le_of_ble_eq_true rfl⟩) V (of_decide_eq_true hg) (fun bb1 ad _ _ hag hle ee1 V => ?_)
  replace e0 := e0.mv hag hle
  replace e1 := e1.mv hag hle
  refine lv_astore_n (lv' := [(3, .ref bb1), (0, .ref a0), (1, .ref a1), (2, .null)]) hx hb dJ4_init_2_8 rfl hl (by decide) rfl (fun ls hl => ?_)
  refine lv_aload_n hx hb dJ4_init_2_9 rfl (lv_at hl 2 rfl) ?_
  obtain ⟨r3, h3c, hF⟩ := dx_b1_some hF
  refine cl_ci (va_runU (As := []) S (cm_J10_length l D dA _ A a1 o1  σ0 _ e1 h3c) (cl_cwQ (owner := "java/lang/AbstractStringBuilder") (k := 0) hts q811 q813 q812 q818 (hts _ q814) q815 q97 q816 (by decide) (by decide +kernel) ⟨Nat.le_of_ble_eq_true rfl, Nat.le_of_ble_eq_true rfl⟩) (cl_preV V [] e1 k2 rfl (by decide)) rfl rfl hl.1 rfl (lv_room (Nat.le_of_ble_eq_true rfl)) dJ4_init_2_10 ⟨Nat.le_of_ble_eq_true rfl, Nat.le_of_ble_eq_true rfl⟩) V (fun ad _ _ hag hle V => ?_)
  replace e0 := e0.mv hag hle
  replace e1 := e1.mv hag hle
  replace ee1 := ee1.mv hag hle
  refine lv_istore (lv' := [(4, .int r3), (3, .ref bb1), (0, .ref a0), (1, .ref a1), (2, .null)]) hx hb dJ4_init_2_13 hl (by decide) rfl (fun ls hl => ?_)
  refine lv_aload_n hx hb dJ4_init_2_15 rfl (lv_at hl 3 rfl) ?_
  obtain ⟨r4, h4c, hF⟩ := dx_b1_some hF
  refine cl_ci (va_runU (As := []) S (cm_J9_isLatin1 l D dA _ A a1 o1  σ0 _ e1 h4c) (cl_cwQ (owner := "java/lang/AbstractStringBuilder") (k := 0) hts q819 q700 q699 q702 (hts _ q701) q699 q96 q702 (by decide) (by decide +kernel) ⟨Nat.le_of_ble_eq_true rfl, Nat.le_of_ble_eq_true rfl⟩) (cl_preV V [] e1 k2 rfl (by decide)) rfl rfl hl.1 rfl (lv_room (Nat.le_of_ble_eq_true rfl)) dJ4_init_2_16 ⟨Nat.le_of_ble_eq_true rfl, Nat.le_of_ble_eq_true rfl⟩) V (fun ad _ _ hag hle V => ?_)
  replace e0 := e0.mv hag hle
  replace e1 := e1.mv hag hle
  replace ee1 := ee1.mv hag hle
  refine lv_if_eq (tgt := 41) hx hb dJ4_init_2_19 (by first | decide | (dsimp only [F0]; decide)) (fun hc => ?_) (fun hc => ?_)
  · replace hF := dx_ib_f (dx_bI_0 hc) hF
    cases hF
  · replace hF := dx_ib_t (dx_bI_n hc) hF
    refine lv_aload_n hx hb dJ4_init_2_22 rfl (lv_at hl 2 rfl) ?_
    refine lv_iconst (v := 0) hx hb dJ4_init_2_23 (by decide) ?_
    obtain ⟨hg, hF⟩ := dx_gd_some hF
    have k5 := of_decide_eq_true hg
    refine cl_piBF S V e0 k5 rfl (by decide) in_J4 tyJ4 tyJ4_ok nmJ4 1 (by decide) rfl q843 rfl rfl hini rfl rfl rfl dJ4_init_2_24 (fun _ _ V => ?_)
    refine lv_aload_n hx hb dJ4_init_2_27 rfl (lv_at hl 2 rfl) ?_
    refine lv_aload_n hx hb dJ4_init_2_28 rfl (lv_at hl 1 rfl) ?_
    refine lv_iconst (v := 0) hx hb dJ4_init_2_29 (by decide) ?_
    refine lv_iload hx hb dJ4_init_2_30 (lv_at hl 0 rfl) ?_
    obtain ⟨r6, σ6, h6c, hF⟩ := dx_b2_some hF
    obtain ⟨hg, hF⟩ := dx_gd_some hF
    refine cl_cr (va_runS (As := [.ref bb1, .int (0 : Int32), .int r3]) S (cm_J14_copyOfRange l D dA _ A bb1 r1 (0 : Int32) r3 (cl_wi σ0 o0 1 (0 : Int32)) _ _ ee1 h6c) (va_cwS 3 hts (lw_S q820 q821 q101 q822) rfl rfl rfl cd_J14_copyOfRange ⟨Nat.le_of_ble_eq_true rfl, Nat.le_of_ble_eq_true rfl⟩) (cl_preS V [.ref bb1, .int (0 : Int32), .int r3]) rfl rfl hl.1 rfl (lv_room (Nat.le_of_ble_eq_true rfl)) dJ4_init_2_32 ⟨Nat.le_of_ble_eq_true rfl, Nat.le_of_ble_eq_true rfl⟩) V (of_decide_eq_true hg) (fun bb6 ad _ _ hag hle ee6 V => ?_)
    replace e0 := e0.mv hag hle
    replace e1 := e1.mv hag hle
    replace ee1 := ee1.mv hag hle
    obtain ⟨hg, hF⟩ := dx_gd_some hF
    have k7 := of_decide_eq_true hg
    refine cl_prF S V e0 k7 rfl (by decide) in_J4 tyJ4 tyJ4_ok nmJ4 0 (by decide) rfl q842 rfl rfl hini rfl ee6 rfl rfl dJ4_init_2_35 (fun _ _ V => ?_)
    refine lv_goto (tgt := 97) hx hb dJ4_init_2_38 (by first | decide | (dsimp only [F0]; decide)) ?_
    refine W.widen (k := 1) (n := 16) (by first | omega | (dsimp only; omega)) (by first | omega | (dsimp only; omega)) ?_
    replace hF := Option.some.inj hF
    subst hF
    exact cl_rv S V hr hlocks dJ4_init_2_97
theorem cd_J4_init : yJ4_init.cls ≠ "java/lang/invoke/MethodHandle" ∧ yJ4_init.cls ≠ "java/lang/invoke/VarHandle" ∧ (parseMethodDescriptor yJ4_init.desc).map (fun d => d.parameters.length) = some 1 := by decide +kernel
set_option maxHeartbeats 4000000 in
set_option maxRecDepth 100000 in
theorem cm_J4_init (l : Launch) (D : va_G) (dA : Nat → ClassId) (ad0 : Nat → Nat) (A : Nat → Prop) (a0 : Nat) (a1 : Nat) (o0 : Nat) (o1 : Nat)  (σ0 : cl_S) (σ' : cl_S) (e0 : cl_at ad0 σ0 a0 o0) (e1 : cl_at ad0 σ0 a1 o1) (hF : cl_J4_init o0 o1 σ0 = some σ') : cl_Cv l yJ4_init cJ4_init 2 ({ frames := 4, cells := 1, slots := 16, locals := 96 }) D dA ad0 A [.ref a0, .ref a1] σ0 σ' := by
  refine cl_in RJ4 rfl (by decide) (Nat.le_of_ble_eq_true rfl) ?_
  intro p e s m below meth c ls S hr hlocks hini hv hl
  have hx := S.1
  have hb := S.2.1
  have hown := S.2.2.2.1
  have hts := S.2.2.2.2
  obtain ⟨hN, hK, hP, hD, hA, hZ⟩ := hv
  have V : cl_V D dA (ad0, cl_n σ0) ad0 A s.heap σ0 s s.heap [] := ⟨hN, hK, hP, hD, va_S.rf, hA, hZ, fun _ _ => rfl, Nat.le_refl _⟩
  obtain ⟨ad, V, e0, e1⟩ : ∃ ad, cl_V D dA (ad0, cl_n σ0) ad A s.heap σ0 s s.heap [] ∧ cl_at ad σ0 a0 o0 ∧ cl_at ad σ0 a1 o1 := ⟨ad0, V, e0, e1⟩
  replace hl : lv_has ls 2 [(0, .ref a0), (1, .ref a1)] := hl
  unfold cl_J4_init at hF
  refine lv_aload_n hx hb dJ4_init_0 rfl (lv_at hl 0 rfl) ?_
  refine lv_aload_n hx hb dJ4_init_1 rfl (lv_at hl 1 rfl) ?_
  refine lv_null hx hb dJ4_init_2 ?_
  obtain ⟨σ1, h1c, hF⟩ := dx_b1_some hF
  refine cl_cv (va_runI (As := [.ref a1, .null]) S (cm_J4_init_2 l D dA _ A a0 a1 o0 o1  σ0 _ e0 e1 h1c) (cwI 2 hts (lw_meth q804) rfl rfl rfl (hts _ q88) (hts _ q802) (hts _ q803) rfl cd_J4_init_2 ⟨Nat.le_of_ble_eq_true rfl, Nat.le_of_ble_eq_true rfl⟩) (cl_preS V [.ref a0, .ref a1, .null]) rfl rfl hl.1 rfl (lv_room (Nat.le_of_ble_eq_true rfl)) dJ4_init_3 ⟨Nat.le_of_ble_eq_true rfl, Nat.le_of_ble_eq_true rfl⟩) V (fun ad _ _ hag hle V => ?_)
  replace e0 := e0.mv hag hle
  replace e1 := e1.mv hag hle
  refine W.widen (k := 1) (n := 16) (by first | omega | (dsimp only; omega)) (by first | omega | (dsimp only; omega)) ?_
  replace hF := Option.some.inj hF
  subst hF
  exact cl_rv S V hr hlocks dJ4_init_6
