/-! the class side read back and walked (printed by gen/clmain.py) -/
theorem cd_J10_toString : yJ10_toString.cls ≠ "java/lang/invoke/MethodHandle" ∧ yJ10_toString.cls ≠ "java/lang/invoke/VarHandle" ∧ (parseMethodDescriptor yJ10_toString.desc).map (fun d => d.parameters.length) = some 0 := by decide +kernel
set_option maxHeartbeats 4000000 in
set_option maxRecDepth 100000 in
theorem cm_J10_toString (l : Launch) (D : va_G) (dA : Nat → ClassId) (ad0 : Nat → Nat) (A : Nat → Prop) (a0 : Nat) (o0 : Nat)  (σ0 : cl_S) (r : Nat) (σ' : cl_S) (e0 : cl_at ad0 σ0 a0 o0) (hF : cl_J10_toString o0 σ0 = some (r, σ')) : cl_Cr l yJ10_toString cJ10_toString 1 (.object "java/lang/String") ({ frames := 5, cells := 2, slots := 20, locals := 117 }) D dA ad0 A [.ref a0] σ0 r σ' := by
  refine cl_in RJ10 rfl (by decide) (Nat.le_of_ble_eq_true rfl) ?_
  intro p e s m below meth c ls S hr hlocks hini hv hl
  have hx := S.1
  have hb := S.2.1
  have hown := S.2.2.2.1
  have hts := S.2.2.2.2
  obtain ⟨hN, hK, hP, hD, hA, hZ⟩ := hv
  have V : cl_V D dA (ad0, cl_n σ0) ad0 A s.heap σ0 s s.heap [] := ⟨hN, hK, hP, hD, va_S.rf, hA, hZ, fun _ _ => rfl, Nat.le_refl _⟩
  obtain ⟨ad, V, e0⟩ : ∃ ad, cl_V D dA (ad0, cl_n σ0) ad A s.heap σ0 s s.heap [] ∧ cl_at ad σ0 a0 o0 := ⟨ad0, V, e0⟩
  replace hl : lv_has ls 1 [(0, .ref a0)] := hl
  unfold cl_J10_toString at hF
  refine cl_new S V rfl (by decide) in_J4 tyJ4 tyJ4_ok cl_dfJ4 q798 q393 q88 (Nat.le_of_ble_eq_true rfl) (Nat.le_of_ble_eq_true rfl) dJ10_toString_0 (fun bb1 ad _ hag ee1 V => ?_)
  replace e0 := cl_at.nw 16 0 e0 hag
  have k1 : cl_k (cl_nw σ0 16 0) (cl_n σ0 + 1) = 16 := cl_k_nw
  refine lv_dup hx hb dJ10_toString_3 rfl ?_
  refine lv_aload_n hx hb dJ10_toString_4 rfl (lv_at hl 0 rfl) ?_
  obtain ⟨σ2, h2c, hF⟩ := dx_b1_some hF
  refine cl_cv (va_runI (As := [.ref a0]) S (cm_J4_init l D dA _ A bb1 a0 (cl_n σ0 + 1) o0  (cl_nw σ0 16 0) _ ee1 e0 h2c) (cwI 1 hts (lw_meth q801) rfl rfl rfl (hts _ q88) (hts _ q799) (hts _ q800) rfl cd_J4_init ⟨Nat.le_of_ble_eq_true rfl, Nat.le_of_ble_eq_true rfl⟩) (cl_preS V [.ref bb1, .ref a0]) rfl rfl hl.1 rfl (lv_room (Nat.le_of_ble_eq_true rfl)) dJ10_toString_5 ⟨Nat.le_of_ble_eq_true rfl, Nat.le_of_ble_eq_true rfl⟩) V (fun ad _ _ hag hle V => ?_)
  replace ee1 := ee1.mv hag hle
  replace e0 := e0.mv hag hle
  refine W.widen (k := 2) (n := 20) (by first | omega | (dsimp only; omega)) (by first | omega | (dsimp only; omega)) ?_
  obtain ⟨hF1, hF2⟩ := dx_r2 hF
  subst hF1
  subst hF2
  exact cl_rr S V hr (Or.inl ⟨_, rfl⟩) hlocks ee1 dJ10_toString_8
theorem cd_J4_isLatin1 : yJ4_isLatin1.cls ≠ "java/lang/invoke/MethodHandle" ∧ yJ4_isLatin1.cls ≠ "java/lang/invoke/VarHandle" ∧ (parseMethodDescriptor yJ4_isLatin1.desc).map (fun d => d.parameters.length) = some 0 := by decide +kernel
set_option maxHeartbeats 4000000 in
set_option maxRecDepth 100000 in
theorem cm_J4_isLatin1 (l : Launch) (D : va_G) (dA : Nat → ClassId) (ad0 : Nat → Nat) (A : Nat → Prop) (a0 : Nat) (o0 : Nat)  (σ0 : cl_S) (r : Bool) (e0 : cl_at ad0 σ0 a0 o0) (hF : cl_J4_isLatin1 o0 σ0 = some r) : cl_Ci l yJ4_isLatin1 cJ4_isLatin1 1 .boolean ({ frames := 0, cells := 0, slots := 0, locals := 0 }) D dA ad0 A [.ref a0] σ0 (dx_bI r) σ0 := by
  refine cl_in RJ4 rfl (by decide) (Nat.le_of_ble_eq_true rfl) ?_
  intro p e s m below meth c ls S hr hlocks hini hv hl
  have hx := S.1
  have hb := S.2.1
  have hown := S.2.2.2.1
  have hts := S.2.2.2.2
  obtain ⟨hN, hK, hP, hD, hA, hZ⟩ := hv
  have V : cl_V D dA (ad0, cl_n σ0) ad0 A s.heap σ0 s s.heap [] := ⟨hN, hK, hP, hD, va_S.rf, hA, hZ, fun _ _ => rfl, Nat.le_refl _⟩
  obtain ⟨ad, V, e0⟩ : ∃ ad, cl_V D dA (ad0, cl_n σ0) ad A s.heap σ0 s s.heap [] ∧ cl_at ad σ0 a0 o0 := ⟨ad0, V, e0⟩
  replace hl : lv_has ls 1 [(0, .ref a0)] := hl
  unfold cl_J4_isLatin1 at hF
  refine va_gets hx hb V.1.x.2.2.1.1 V.2.2.2.2.1 hown (hts _ q737) (fun _ h => h) dJ4_isLatin1_0 ?_
  refine lv_if_eq (tgt := 17) hx hb dJ4_isLatin1_3 (by decide) (fun hc => ?_) (fun hc => ?_)
  · exact absurd hc (by decide)
  · refine lv_aload_n hx hb dJ4_isLatin1_6 rfl (lv_at hl 0 rfl) ?_
    obtain ⟨hg, hF⟩ := dx_gd_some hF
    have k1 := of_decide_eq_true hg
    refine cl_giS S V e0 k1 q843 dJ4_isLatin1_7 ?_
    refine lv_if_ne (tgt := 17) hx hb dJ4_isLatin1_10 (by decide) (fun hc => ?_) (fun hc => ?_)
    · replace hF := (if_neg hc).symm.trans hF
      refine lv_iconst (v := 0) hx hb dJ4_isLatin1_17 (by decide) ?_
      replace hF := Option.some.inj hF
      subst hF
      exact cl_ri S V hr hlocks rfl dJ4_isLatin1_18
    · replace hF := (if_pos hc).symm.trans hF
      refine lv_iconst (v := 1) hx hb dJ4_isLatin1_13 (by decide) ?_
      refine lv_goto (tgt := 18) hx hb dJ4_isLatin1_14 (by decide) ?_
      replace hF := Option.some.inj hF
      subst hF
      exact cl_ri S V hr hlocks rfl dJ4_isLatin1_18
theorem cd_J16_hashCode : yJ16_hashCode.cls ≠ "java/lang/invoke/MethodHandle" ∧ yJ16_hashCode.cls ≠ "java/lang/invoke/VarHandle" ∧ (parseMethodDescriptor yJ16_hashCode.desc).map (fun d => d.parameters.length) = some 1 := by decide +kernel
set_option maxHeartbeats 4000000 in
set_option maxRecDepth 100000 in
theorem cm_J16_hashCode (l : Launch) (D : va_G) (dA : Nat → ClassId) (ad0 : Nat → Nat) (A : Nat → Prop) (a0 : Nat) (o0 : Nat)  (σ0 : cl_S) (r : Int32) (e0 : cl_at ad0 σ0 a0 o0) (hF : cl_J16_hashCode o0 σ0 = some r) : cl_Ci l yJ16_hashCode cJ16_hashCode 1 .int ({ frames := 0, cells := 0, slots := 0, locals := 0 }) D dA ad0 A [.ref a0] σ0 r σ0 := by
  refine cl_in RJ16 rfl (by decide) (Nat.le_of_ble_eq_true rfl) ?_
  intro p e s m below meth c ls S hr hlocks hini hv hl
  have hx := S.1
  have hb := S.2.1
  have hown := S.2.2.2.1
  have hts := S.2.2.2.2
  obtain ⟨hN, hK, hP, hD, hA, hZ⟩ := hv
  have V : cl_V D dA (ad0, cl_n σ0) ad0 A s.heap σ0 s s.heap [] := ⟨hN, hK, hP, hD, va_S.rf, hA, hZ, fun _ _ => rfl, Nat.le_refl _⟩
  obtain ⟨ad, V, e0⟩ : ∃ ad, cl_V D dA (ad0, cl_n σ0) ad A s.heap σ0 s s.heap [] ∧ cl_at ad σ0 a0 o0 := ⟨ad0, V, e0⟩
  replace hl : lv_has ls 1 [(0, .ref a0)] := hl
  unfold cl_J16_hashCode at hF
  refine lv_aload_n hx hb dJ16_hashCode_0 rfl (lv_at hl 0 rfl) ?_
  obtain ⟨hg, hF⟩ := dx_gd_some hF
  have k1 := of_decide_eq_true hg
  refine cl_lenS S V e0 k1 dJ16_hashCode_1 ?_
  by_cases hs0 : (Int32.ofNat (cl_l σ0 o0)) = (0 : Int32)
  · replace hF := (if_pos hs0).symm.trans hF
    refine lv_lookup (tgt := 28) hx hb dJ16_hashCode_2 (by decide) (by rw [hs0]; try decide) (by decide) ?_
    refine lv_iconst (v := 0) hx hb dJ16_hashCode_28 (by decide) ?_
    refine lv_goto (tgt := 51) hx hb dJ16_hashCode_29 (by decide) ?_
    replace hF := Option.some.inj hF
    subst hF
    exact cl_ri S V hr hlocks rfl dJ16_hashCode_51
  replace hF := (if_neg hs0).symm.trans hF
  by_cases hs1 : (Int32.ofNat (cl_l σ0 o0)) = (1 : Int32)
  · replace hF := (if_pos hs1).symm.trans hF
    refine lv_lookup (tgt := 32) hx hb dJ16_hashCode_2 (by decide) (by rw [hs1]; try decide) (by decide) ?_
    refine lv_aload_n hx hb dJ16_hashCode_32 rfl (lv_at hl 0 rfl) ?_
    refine lv_iconst (v := 0) hx hb dJ16_hashCode_33 (by decide) ?_
    obtain ⟨hg, hF⟩ := dx_gd_some hF
    refine cl_ldbS S V e0 k1 (dx_inb_in hg) dJ16_hashCode_34 ?_
    refine lv_sipush (v := 255) hx hb dJ16_hashCode_35 (by decide) ?_
    refine lv_iand hx hb dJ16_hashCode_38 ?_
    refine lv_goto (tgt := 51) hx hb dJ16_hashCode_39 (by decide) ?_
    replace hF := Option.some.inj hF
    subst hF
    exact cl_ri S V hr hlocks rfl dJ16_hashCode_51
  replace hF := (if_neg hs1).symm.trans hF
  refine lv_lookup (tgt := 42) hx hb dJ16_hashCode_2 (by decide) (by have nhs0 := lv_neT hs0 (show ((0 : Int32)).toInt = 0 from rfl); have nhs1 := lv_neT hs1 (show ((1 : Int32)).toInt = 1 from rfl); show Op.lookupswitch.offset [(0, 26), (1, 30)] 40 _ = 40; rw [Op.lookupswitch.offset_cons, if_neg (Ne.symm nhs0), Op.lookupswitch.offset_cons, if_neg (Ne.symm nhs1)]; rfl) (by decide) ?_
  cases hF
theorem cd_J4_hashCode : yJ4_hashCode.cls ≠ "java/lang/invoke/MethodHandle" ∧ yJ4_hashCode.cls ≠ "java/lang/invoke/VarHandle" ∧ (parseMethodDescriptor yJ4_hashCode.desc).map (fun d => d.parameters.length) = some 0 := by decide +kernel
set_option maxHeartbeats 4000000 in
set_option maxRecDepth 100000 in
theorem cm_J4_hashCode (l : Launch) (D : va_G) (dA : Nat → ClassId) (ad0 : Nat → Nat) (A : Nat → Prop) (a0 : Nat) (o0 : Nat)  (σ0 : cl_S) (r : Int32) (σ' : cl_S) (e0 : cl_at ad0 σ0 a0 o0) (hF : cl_J4_hashCode o0 σ0 = some (r, σ')) : cl_Ci l yJ4_hashCode cJ4_hashCode 2 .int ({ frames := 1, cells := 0, slots := 0, locals := 20 }) D dA ad0 A [.ref a0] σ0 r σ' := by
  refine cl_in RJ4 rfl (by decide) (Nat.le_of_ble_eq_true rfl) ?_
  intro p e s m below meth c ls S hr hlocks hini hv hl
  have hx := S.1
  have hb := S.2.1
  have hown := S.2.2.2.1
  have hts := S.2.2.2.2
  obtain ⟨hN, hK, hP, hD, hA, hZ⟩ := hv
  have V : cl_V D dA (ad0, cl_n σ0) ad0 A s.heap σ0 s s.heap [] := ⟨hN, hK, hP, hD, va_S.rf, hA, hZ, fun _ _ => rfl, Nat.le_refl _⟩
  obtain ⟨ad, V, e0⟩ : ∃ ad, cl_V D dA (ad0, cl_n σ0) ad A s.heap σ0 s s.heap [] ∧ cl_at ad σ0 a0 o0 := ⟨ad0, V, e0⟩
  replace hl : lv_has ls 2 [(0, .ref a0)] := hl
  unfold cl_J4_hashCode at hF
  refine lv_aload_n hx hb dJ4_hashCode_0 rfl (lv_at hl 0 rfl) ?_
  obtain ⟨hg, hF⟩ := dx_gd_some hF
  have k1 := of_decide_eq_true hg
  refine cl_gi S V e0 k1 rfl (by decide) in_J4 2 (by decide) rfl q844 rfl dJ4_hashCode_1 ?_
  refine lv_istore_n (lv' := [(1, .int (cl_i σ0 o0 2)), (0, .ref a0)]) hx hb dJ4_hashCode_4 rfl hl (by decide) rfl (fun ls hl => ?_)
  refine lv_iload_n hx hb dJ4_hashCode_5 rfl (lv_at hl 0 rfl) ?_
  refine lv_if_ne (tgt := 58) hx hb dJ4_hashCode_6 (by decide) (fun hc => ?_) (fun hc => ?_)
  · replace hF := (if_neg hc).symm.trans hF
    refine lv_iload_n hx hb dJ4_hashCode_58 rfl (lv_at hl 0 rfl) ?_
    obtain ⟨hF1, hF2⟩ := dx_r2 hF
    subst hF1
    subst hF2
    exact cl_ri S V hr hlocks rfl dJ4_hashCode_59
  · replace hF := (if_pos hc).symm.trans hF
    refine lv_aload_n hx hb dJ4_hashCode_9 rfl (lv_at hl 1 rfl) ?_
    refine cl_gi S V e0 k1 rfl (by decide) in_J4 3 (by decide) rfl q845 rfl dJ4_hashCode_10 ?_
    refine lv_if_ne (tgt := 58) hx hb dJ4_hashCode_13 (by decide) (fun hc => ?_) (fun hc => ?_)
    · replace hF := (if_neg hc).symm.trans hF
      refine lv_iload_n hx hb dJ4_hashCode_58 rfl (lv_at hl 0 rfl) ?_
      obtain ⟨hF1, hF2⟩ := dx_r2 hF
      subst hF1
      subst hF2
      exact cl_ri S V hr hlocks rfl dJ4_hashCode_59
    · replace hF := (if_pos hc).symm.trans hF
      refine lv_aload_n hx hb dJ4_hashCode_16 rfl (lv_at hl 1 rfl) ?_
      obtain ⟨r2, h2c, hF⟩ := dx_b1_some hF
      refine cl_ci (va_runV (As := []) S (cm_J4_isLatin1 l D dA _ A a0 o0  σ0 _ e0 h2c) (cwV 0 hts (lw_V q858 q859 q860 q88 q861) rfl rfl rfl ⟨rfl, cd_J4_isLatin1⟩ ⟨Nat.le_of_ble_eq_true rfl, Nat.le_of_ble_eq_true rfl⟩) (cl_preVS V [] e0 (Or.inl k1)) rfl rfl hl.1 rfl (lv_room (Nat.le_of_ble_eq_true rfl)) dJ4_hashCode_17 ⟨Nat.le_of_ble_eq_true rfl, Nat.le_of_ble_eq_true rfl⟩) V (fun ad _ _ hag hle V => ?_)
      replace e0 := e0.mv hag hle
      refine lv_if_eq (tgt := 33) hx hb dJ4_hashCode_20 (by decide) (fun hc => ?_) (fun hc => ?_)
      · replace hF := dx_ib_f (dx_bI_0 hc) hF
        cases hF
      · replace hF := dx_ib_t (dx_bI_n hc) hF
        refine lv_aload_n hx hb dJ4_hashCode_23 rfl (lv_at hl 1 rfl) ?_
        obtain ⟨hg, hF⟩ := dx_gd_some hF
        refine cl_grS S V e0 (Or.inl k1) q842 dJ4_hashCode_24 (of_decide_eq_true hg) (fun bb3 ee3 => ?_)
        obtain ⟨r4, h4c, hF⟩ := dx_b1_some hF
        refine cl_ci (va_runS (As := [.ref bb3]) S (cm_J16_hashCode l D dA _ A bb3 (cl_r σ0 o0 0)  σ0 _ ee3 h4c) (va_cwS 1 hts (lw_S q862 q863 q103 q864) rfl rfl rfl cd_J16_hashCode ⟨Nat.le_of_ble_eq_true rfl, Nat.le_of_ble_eq_true rfl⟩) (cl_preS V [.ref bb3]) rfl rfl hl.1 rfl (lv_room (Nat.le_of_ble_eq_true rfl)) dJ4_hashCode_27 ⟨Nat.le_of_ble_eq_true rfl, Nat.le_of_ble_eq_true rfl⟩) V (fun ad _ _ hag hle V => ?_)
        replace e0 := e0.mv hag hle
        refine lv_goto (tgt := 40) hx hb dJ4_hashCode_30 (by decide) ?_
        refine lv_istore_n (lv' := [(1, .int r4), (0, .ref a0)]) hx hb dJ4_hashCode_40 rfl hl (by decide) rfl (fun ls hl => ?_)
        refine lv_iload_n hx hb dJ4_hashCode_41 rfl (lv_at hl 0 rfl) ?_
        refine lv_if_ne (tgt := 53) hx hb dJ4_hashCode_42 (by decide) (fun hc => ?_) (fun hc => ?_)
        · replace hF := (if_neg hc).symm.trans hF
          refine lv_aload_n hx hb dJ4_hashCode_53 rfl (lv_at hl 1 rfl) ?_
          refine lv_iload_n hx hb dJ4_hashCode_54 rfl (lv_at hl 0 rfl) ?_
          refine cl_pi S V e0 k1 rfl (by decide) in_J4 tyJ4 tyJ4_ok nmJ4 2 (by decide) rfl q844 rfl rfl rfl dJ4_hashCode_55 (fun _ _ V => ?_)
          refine lv_iload_n hx hb dJ4_hashCode_58 rfl (lv_at hl 0 rfl) ?_
          obtain ⟨hF1, hF2⟩ := dx_r2 hF
          subst hF1
          subst hF2
          exact cl_ri S V hr hlocks rfl dJ4_hashCode_59
        · replace hF := (if_pos hc).symm.trans hF
          cases hF
theorem cd_J16_equals : yJ16_equals.cls ≠ "java/lang/invoke/MethodHandle" ∧ yJ16_equals.cls ≠ "java/lang/invoke/VarHandle" ∧ (parseMethodDescriptor yJ16_equals.desc).map (fun d => d.parameters.length) = some 2 := by decide +kernel
set_option maxHeartbeats 4000000 in
set_option maxRecDepth 100000 in
theorem cm_J16_equals (l : Launch) (D : va_G) (dA : Nat → ClassId) (ad0 : Nat → Nat) (A : Nat → Prop) (a0 : Nat) (a1 : Nat) (o0 : Nat) (o1 : Nat)  (σ0 : cl_S) (r : Bool) (e0 : cl_at ad0 σ0 a0 o0) (e1 : cl_at ad0 σ0 a1 o1) (hF : cl_J16_equals o0 o1 σ0 = some r) : cl_Ci l yJ16_equals cJ16_equals 3 .boolean ({ frames := 0, cells := 0, slots := 0, locals := 0 }) D dA ad0 A [.ref a0, .ref a1] σ0 (dx_bI r) σ0 := by
  refine cl_in RJ16 rfl (by decide) (Nat.le_of_ble_eq_true rfl) ?_
  intro p e s m below meth c ls S hr hlocks hini hv hl
  have hx := S.1
  have hb := S.2.1
  have hown := S.2.2.2.1
  have hts := S.2.2.2.2
  obtain ⟨hN, hK, hP, hD, hA, hZ⟩ := hv
  have V : cl_V D dA (ad0, cl_n σ0) ad0 A s.heap σ0 s s.heap [] := ⟨hN, hK, hP, hD, va_S.rf, hA, hZ, fun _ _ => rfl, Nat.le_refl _⟩
  obtain ⟨ad, V, e0, e1⟩ : ∃ ad, cl_V D dA (ad0, cl_n σ0) ad A s.heap σ0 s s.heap [] ∧ cl_at ad σ0 a0 o0 ∧ cl_at ad σ0 a1 o1 := ⟨ad0, V, e0, e1⟩
  replace hl : lv_has ls 3 [(0, .ref a0), (1, .ref a1)] := hl
  unfold cl_J16_equals at hF
  have hL9 : ∀  (n : Nat) (v2 : Int32) (ad : Nat → Nat) (H : Heap) (locs : List Loc) (ls : Array Slot), dx_lp (fun x => cl_J16_equals_L9 o0 o1 σ0 x) n v2 = some r → cl_at ad σ0 a0 o0 → cl_at ad σ0 a1 o1 → cl_V D dA (ad0, cl_n σ0) ad A s.heap σ0 s H locs → lv_has ls 3 [(0, .ref a0), (1, .ref a1), (2, .int v2)] → W p l e ({ frames := 0, cells := 0, slots := 0, locals := 0 }) s m ([.ref a0, .ref a1] : List Value).toArray below meth c H locs 0 0 (MQ below (cl_Qi D dA ad0 A σ0 σ0 (dx_bI r)) ([.ref a0, .ref a1] : List Value).toArray s 0 0 A) (F0 m 9 ls []) := by
    intro n
    induction n with
    | zero =>
      intro v2 ad H locs ls hF e0 e1 V hl
      exact (dx_lp_0 hF).elim
    | succ n ih9 =>
      intro v2 ad H locs ls hF e0 e1 V hl
      obtain ⟨y9, hF, hz9⟩ := dx_lp_s hF
      replace hF : cl_J16_equals_L9 o0 o1 σ0 v2 = some y9 := hF
      unfold cl_J16_equals_L9 at hF
      refine lv_iload_n hx hb dJ16_equals_9 rfl (lv_at hl 2 rfl) ?_
      refine lv_aload_n hx hb dJ16_equals_10 rfl (lv_at hl 0 rfl) ?_
      obtain ⟨hg, hF⟩ := dx_gd_some hF
      have k3 := of_decide_eq_true hg
      refine cl_lenS S V e0 k3 dJ16_equals_11 ?_
      refine lv_icmp_ge (tgt := 32) hx hb dJ16_equals_12 (by decide) (fun hc => ?_) (fun hc => ?_)
      · replace hF := (if_pos hc).symm.trans hF
        replace hF := dx_ex_k hF hz9
        refine lv_iconst (v := 1) hx hb dJ16_equals_32 (by decide) ?_
        replace hF := Option.some.inj hF
        subst hF
        exact cl_ri S V hr hlocks rfl dJ16_equals_33
      · replace hF := (if_neg hc).symm.trans hF
        refine lv_aload_n hx hb dJ16_equals_15 rfl (lv_at hl 0 rfl) ?_
        refine lv_iload_n hx hb dJ16_equals_16 rfl (lv_at hl 2 rfl) ?_
        obtain ⟨hg, hF⟩ := dx_gd_some hF
        refine cl_ldbS S V e0 k3 (dx_inb_in hg) dJ16_equals_17 ?_
        refine lv_aload_n hx hb dJ16_equals_18 rfl (lv_at hl 1 rfl) ?_
        refine lv_iload_n hx hb dJ16_equals_19 rfl (lv_at hl 2 rfl) ?_
        obtain ⟨hg, hF⟩ := dx_gd_some hF
        have k4 := of_decide_eq_true hg
        obtain ⟨hg, hF⟩ := dx_gd_some hF
        refine cl_ldbS S V e1 k4 (dx_inb_in hg) dJ16_equals_20 ?_
        refine lv_icmp_eq (tgt := 26) hx hb dJ16_equals_21 (by decide) (fun hc => ?_) (fun hc => ?_)
        · replace hF := (if_pos hc).symm.trans hF
          refine lv_iinc (v := (v2 + (1 : Int32))) (lv' := [(2, .int (v2 + (1 : Int32))), (0, .ref a0), (1, .ref a1)]) hx hb dJ16_equals_26 hl (k := 2) rfl rfl (by decide) rfl (fun ls hl => ?_)
          refine lv_goto (tgt := 9) hx hb dJ16_equals_29 (by decide) ?_
          replace hF := Option.some.inj hF
          subst hF
          exact ih9 (v2 + (1 : Int32)) _ _ _ _ (dx_lk_l hz9) e0 e1 V (lv_sub hl [1, 2, 0] rfl)
        · replace hF := (if_neg hc).symm.trans hF
          replace hF := dx_ex_k hF hz9
          refine lv_iconst (v := 0) hx hb dJ16_equals_24 (by decide) ?_
          replace hF := Option.some.inj hF
          subst hF
          exact cl_ri S V hr hlocks rfl dJ16_equals_25
  refine lv_aload_n hx hb dJ16_equals_0 rfl (lv_at hl 0 rfl) ?_
  obtain ⟨hg, hF⟩ := dx_gd_some hF
  have k1 := of_decide_eq_true hg
  refine cl_lenS S V e0 k1 dJ16_equals_1 ?_
  refine lv_aload_n hx hb dJ16_equals_2 rfl (lv_at hl 1 rfl) ?_
  obtain ⟨hg, hF⟩ := dx_gd_some hF
  have k2 := of_decide_eq_true hg
  refine cl_lenS S V e1 k2 dJ16_equals_3 ?_
  refine lv_icmp_ne (tgt := 34) hx hb dJ16_equals_4 (by decide) (fun hc => ?_) (fun hc => ?_)
  · replace hF := (if_neg hc).symm.trans hF
    refine lv_iconst (v := 0) hx hb dJ16_equals_34 (by decide) ?_
    replace hF := Option.some.inj hF
    subst hF
    exact cl_ri S V hr hlocks rfl dJ16_equals_35
  · replace hF := (if_pos hc).symm.trans hF
    refine lv_iconst (v := 0) hx hb dJ16_equals_7 (by decide) ?_
    refine lv_istore_n (lv' := [(2, .int (0 : Int32)), (0, .ref a0), (1, .ref a1)]) hx hb dJ16_equals_8 rfl hl (by decide) rfl (fun ls hl => ?_)
    exact hL9  dx_fu (0 : Int32) _ _ _ _ hF e0 e1 V (lv_sub hl [1, 2, 0] rfl)
theorem cd_J4_equals : yJ4_equals.cls ≠ "java/lang/invoke/MethodHandle" ∧ yJ4_equals.cls ≠ "java/lang/invoke/VarHandle" ∧ (parseMethodDescriptor yJ4_equals.desc).map (fun d => d.parameters.length) = some 1 := by decide +kernel
set_option maxHeartbeats 4000000 in
set_option maxRecDepth 100000 in
theorem cm_J4_equals (l : Launch) (D : va_G) (dA : Nat → ClassId) (ad0 : Nat → Nat) (A : Nat → Prop) (a0 : Nat) (a1 : Nat) (o0 : Nat) (o1 : Nat)  (σ0 : cl_S) (r : Bool) (e0 : cl_at ad0 σ0 a0 o0) (e1 : cl_at ad0 σ0 a1 o1) (hF : cl_J4_equals o0 o1 σ0 = some r) : cl_Ci l yJ4_equals cJ4_equals 3 .boolean ({ frames := 1, cells := 0, slots := 0, locals := 22 }) D dA ad0 A [.ref a0, .ref a1] σ0 (dx_bI r) σ0 := by
  refine cl_in RJ4 rfl (by decide) (Nat.le_of_ble_eq_true rfl) ?_
  intro p e s m below meth c ls S hr hlocks hini hv hl
  have hx := S.1
  have hb := S.2.1
  have hown := S.2.2.2.1
  have hts := S.2.2.2.2
  obtain ⟨hN, hK, hP, hD, hA, hZ⟩ := hv
  have V : cl_V D dA (ad0, cl_n σ0) ad0 A s.heap σ0 s s.heap [] := ⟨hN, hK, hP, hD, va_S.rf, hA, hZ, fun _ _ => rfl, Nat.le_refl _⟩
  obtain ⟨ad, V, e0, e1⟩ : ∃ ad, cl_V D dA (ad0, cl_n σ0) ad A s.heap σ0 s s.heap [] ∧ cl_at ad σ0 a0 o0 ∧ cl_at ad σ0 a1 o1 := ⟨ad0, V, e0, e1⟩
  replace hl : lv_has ls 3 [(0, .ref a0), (1, .ref a1)] := hl
  unfold cl_J4_equals at hF
  have hJ36 : ∀ (v2 : Nat) (ad : Nat → Nat) (b2 : Nat) (H : Heap) (locs : List Loc) (ls : Array Slot), cl_J4_equals_J36 o0 o1 σ0 v2 = some r → cl_at ad σ0 a0 o0 → cl_at ad σ0 b2 v2 → cl_V D dA (ad0, cl_n σ0) ad A s.heap σ0 s H locs → lv_has ls 3 [(0, .ref a0), (2, .ref b2)] → W p l e ({ frames := 1, cells := 0, slots := 0, locals := 22 }) s m ([.ref a0, .ref a1] : List Value).toArray below meth c H locs 0 0 (MQ below (cl_Qi D dA ad0 A σ0 σ0 (dx_bI r)) ([.ref a0, .ref a1] : List Value).toArray s 0 0 A) (F0 m 36 ls []) := by
    intro v2 ad b2 H locs ls hF e0 e2 V hl
    unfold cl_J4_equals_J36 at hF
    refine lv_aload_n hx hb dJ4_equals_36 rfl (lv_at hl 0 rfl) ?_
    obtain ⟨hg, hF⟩ := dx_gd_some hF
    have k3 := of_decide_eq_true hg
    obtain ⟨hg, hF⟩ := dx_gd_some hF
    refine cl_grS S V e0 k3 q842 dJ4_equals_37 (of_decide_eq_true hg) (fun bb4 ee4 => ?_)
    refine lv_aload_n hx hb dJ4_equals_40 rfl (lv_at hl 1 rfl) ?_
    obtain ⟨hg, hF⟩ := dx_gd_some hF
    have k5 := of_decide_eq_true hg
    obtain ⟨hg, hF⟩ := dx_gd_some hF
    refine cl_grS S V e2 k5 q842 dJ4_equals_41 (of_decide_eq_true hg) (fun bb6 ee6 => ?_)
    obtain ⟨r7, h7c, hF⟩ := dx_b1_some hF
    refine cl_ci (va_runS (As := [.ref bb4, .ref bb6]) S (cm_J16_equals l D dA _ A bb4 bb6 (cl_r σ0 o0 0) (cl_r σ0 v2 0)  σ0 _ ee4 ee6 h7c) (va_cwS 2 hts (lw_S q913 q914 q103 q915) rfl rfl rfl cd_J16_equals ⟨Nat.le_of_ble_eq_true rfl, Nat.le_of_ble_eq_true rfl⟩) (cl_preS V [.ref bb4, .ref bb6]) rfl rfl hl.1 rfl (lv_room (Nat.le_of_ble_eq_true rfl)) dJ4_equals_44 ⟨Nat.le_of_ble_eq_true rfl, Nat.le_of_ble_eq_true rfl⟩) V (fun ad _ _ hag hle V => ?_)
    replace e0 := e0.mv hag hle
    replace e2 := e2.mv hag hle
    refine lv_if_eq (tgt := 54) hx hb dJ4_equals_47 (by decide) (fun hc => ?_) (fun hc => ?_)
    · replace hF := dx_ib_f (dx_bI_0 hc) hF
      refine lv_iconst (v := 0) hx hb dJ4_equals_54 (by decide) ?_
      replace hF := Option.some.inj hF
      subst hF
      exact cl_ri S V hr hlocks rfl dJ4_equals_55
    · replace hF := dx_ib_t (dx_bI_n hc) hF
      refine lv_iconst (v := 1) hx hb dJ4_equals_50 (by decide) ?_
      refine lv_goto (tgt := 55) hx hb dJ4_equals_51 (by decide) ?_
      replace hF := Option.some.inj hF
      subst hF
      exact cl_ri S V hr hlocks rfl dJ4_equals_55
  refine lv_aload_n hx hb dJ4_equals_0 rfl (lv_at hl 0 rfl) ?_
  refine lv_aload_n hx hb dJ4_equals_1 rfl (lv_at hl 1 rfl) ?_
  obtain ⟨hg, hF⟩ := dx_gd_some hF
  have k1 := of_decide_eq_true hg
  obtain ⟨hg, hF⟩ := dx_gd_some hF
  have k2 := of_decide_eq_true hg
  refine lv_acmp_ne (rx := some a0) (ry := some a1) (tgt := 7) hx hb dJ4_equals_2 (by decide) (fun hc => ?_) (fun hc => absurd (Option.some.inj hc) (cl_neSC V e0 k1 e1 k2))
  refine lv_aload_n hx hb dJ4_equals_7 rfl (lv_at hl 1 rfl) ?_
  refine va_instE hx hb hown (hts _ q912) (cl_recvS V e1 (Or.inr k2)) dJ4_equals_8 ?_
  refine lv_if_eq (tgt := 54) hx hb dJ4_equals_11 (by decide) (fun hc => ?_) (fun hc => ?_)
  · exact absurd hc (by decide)
  · refine lv_aload_n hx hb dJ4_equals_14 rfl (lv_at hl 1 rfl) ?_
    refine va_castE hx hb hown (hts _ q912) (cl_recvS V e1 (Or.inr k2)) dJ4_equals_15 ?_
    refine lv_astore_n (lv' := [(2, .ref a1), (0, .ref a0), (1, .ref a1)]) hx hb dJ4_equals_18 rfl hl (by decide) rfl (fun ls hl => ?_)
    refine va_gets hx hb V.1.x.2.2.1.1 V.2.2.2.2.1 hown (hts _ q737) (fun _ h => h) dJ4_equals_19 ?_
    refine lv_if_eq (tgt := 36) hx hb dJ4_equals_22 (by decide) (fun hc => ?_) (fun hc => ?_)
    · exact absurd hc (by decide)
    · refine lv_aload_n hx hb dJ4_equals_25 rfl (lv_at hl 1 rfl) ?_
      refine cl_giS S V e0 (Or.inl k1) q843 dJ4_equals_26 ?_
      refine lv_aload_n hx hb dJ4_equals_29 rfl (lv_at hl 0 rfl) ?_
      refine cl_giS S V e1 (Or.inr k2) q843 dJ4_equals_30 ?_
      refine lv_icmp_ne (tgt := 54) hx hb dJ4_equals_33 (by decide) (fun hc => ?_) (fun hc => ?_)
      · replace hF := (if_neg hc).symm.trans hF
        refine lv_iconst (v := 0) hx hb dJ4_equals_54 (by decide) ?_
        replace hF := Option.some.inj hF
        subst hF
        exact cl_ri S V hr hlocks rfl dJ4_equals_55
      · replace hF := (if_pos hc).symm.trans hF
        exact hJ36 o1 _ _ _ _ _ hF e0 e1 V (lv_sub hl [1, 0] rfl)
theorem cd_X9_kindBy : yX9_kindBy.cls ≠ "java/lang/invoke/MethodHandle" ∧ yX9_kindBy.cls ≠ "java/lang/invoke/VarHandle" ∧ (parseMethodDescriptor yX9_kindBy.desc).map (fun d => d.parameters.length) = some 1 := by decide +kernel
set_option maxHeartbeats 4000000 in
set_option maxRecDepth 100000 in
theorem cm_X9_kindBy (l : Launch) (D : va_G) (dA : Nat → ClassId) (ad0 : Nat → Nat) (A : Nat → Prop) (a0 : Nat) (o0 : Nat)  (σ0 : cl_S) (r : Int32) (σ' : cl_S) (e0 : cl_at ad0 σ0 a0 o0) (hF : cl_X9_kindBy o0 σ0 = some (r, σ')) : cl_Ci l yX9_kindBy cX9_kindBy 3 .int ({ frames := 2, cells := 0, slots := 0, locals := 44 }) D dA ad0 A [.ref a0] σ0 r σ' := by
  refine cl_in RX9 rfl (by decide) (Nat.le_of_ble_eq_true rfl) ?_
  intro p e s m below meth c ls S hr hlocks hini hv hl
  have hx := S.1
  have hb := S.2.1
  have hown := S.2.2.2.1
  have hts := S.2.2.2.2
  obtain ⟨hN, hK, hP, hD, hA, hZ⟩ := hv
  have V : cl_V D dA (ad0, cl_n σ0) ad0 A s.heap σ0 s s.heap [] := ⟨hN, hK, hP, hD, va_S.rf, hA, hZ, fun _ _ => rfl, Nat.le_refl _⟩
  obtain ⟨ad, V, e0⟩ : ∃ ad, cl_V D dA (ad0, cl_n σ0) ad A s.heap σ0 s s.heap [] ∧ cl_at ad σ0 a0 o0 := ⟨ad0, V, e0⟩
  replace hl : lv_has ls 3 [(0, .ref a0)] := hl
  unfold cl_X9_kindBy at hF
  have hJ127 : ∀ (σ : cl_S) (v2 : Int32) (ad : Nat → Nat) (H : Heap) (locs : List Loc) (ls : Array Slot), cl_X9_kindBy_J127 o0 σ v2 = some (r, σ') → cl_V D dA (ad0, cl_n σ0) ad A s.heap σ s H locs → lv_has ls 3 [(2, .int v2)] → W p l e ({ frames := 2, cells := 0, slots := 0, locals := 44 }) s m ([.ref a0] : List Value).toArray below meth c H locs 0 0 (MQ below (cl_Qi D dA ad0 A σ0 σ' r) ([.ref a0] : List Value).toArray s 0 0 A) (F0 m 127 ls []) := by
    intro σ v2 ad H locs ls hF V hl
    unfold cl_X9_kindBy_J127 at hF
    refine lv_iload_n hx hb dX9_kindBy_127 rfl (lv_at hl 0 rfl) ?_
    by_cases hs0 : v2 = (0 : Int32)
    · replace hF := (if_pos hs0).symm.trans hF
      refine lv_tableIn (tgt := 164) hx hb dX9_kindBy_128 (by rw [hs0]; decide) (by rw [hs0]; decide) (by rw [hs0]; rfl) (by decide) ?_
      refine lv_iconst (v := 1) hx hb dX9_kindBy_164 (by decide) ?_
      obtain ⟨hF1, hF2⟩ := dx_r2 hF
      subst hF1
      subst hF2
      exact cl_ri S V hr hlocks rfl dX9_kindBy_165
    replace hF := (if_neg hs0).symm.trans hF
    by_cases hs1 : v2 = (1 : Int32)
    · replace hF := (if_pos hs1).symm.trans hF
      refine lv_tableIn (tgt := 166) hx hb dX9_kindBy_128 (by rw [hs1]; decide) (by rw [hs1]; decide) (by rw [hs1]; rfl) (by decide) ?_
      refine lv_iconst (v := 2) hx hb dX9_kindBy_166 (by decide) ?_
      obtain ⟨hF1, hF2⟩ := dx_r2 hF
      subst hF1
      subst hF2
      exact cl_ri S V hr hlocks rfl dX9_kindBy_167
    replace hF := (if_neg hs1).symm.trans hF
    by_cases hs2 : v2 = (2 : Int32)
    · replace hF := (if_pos hs2).symm.trans hF
      refine lv_tableIn (tgt := 168) hx hb dX9_kindBy_128 (by rw [hs2]; decide) (by rw [hs2]; decide) (by rw [hs2]; rfl) (by decide) ?_
      refine lv_iconst (v := 3) hx hb dX9_kindBy_168 (by decide) ?_
      obtain ⟨hF1, hF2⟩ := dx_r2 hF
      subst hF1
      subst hF2
      exact cl_ri S V hr hlocks rfl dX9_kindBy_169
    replace hF := (if_neg hs2).symm.trans hF
    by_cases hs3 : v2 = (3 : Int32)
    · replace hF := (if_pos hs3).symm.trans hF
      refine lv_tableIn (tgt := 170) hx hb dX9_kindBy_128 (by rw [hs3]; decide) (by rw [hs3]; decide) (by rw [hs3]; rfl) (by decide) ?_
      refine lv_iconst (v := 4) hx hb dX9_kindBy_170 (by decide) ?_
      obtain ⟨hF1, hF2⟩ := dx_r2 hF
      subst hF1
      subst hF2
      exact cl_ri S V hr hlocks rfl dX9_kindBy_171
    replace hF := (if_neg hs3).symm.trans hF
    by_cases hs4 : v2 = (4 : Int32)
    · replace hF := (if_pos hs4).symm.trans hF
      refine lv_tableIn (tgt := 172) hx hb dX9_kindBy_128 (by rw [hs4]; decide) (by rw [hs4]; decide) (by rw [hs4]; rfl) (by decide) ?_
      refine lv_iconst (v := 5) hx hb dX9_kindBy_172 (by decide) ?_
      obtain ⟨hF1, hF2⟩ := dx_r2 hF
      subst hF1
      subst hF2
      exact cl_ri S V hr hlocks rfl dX9_kindBy_173
    replace hF := (if_neg hs4).symm.trans hF
    refine lv_tableOut (tgt := 174) hx hb dX9_kindBy_128 (by have nhs0 := lv_neT hs0 (show ((0 : Int32)).toInt = 0 from rfl); have nhs1 := lv_neT hs1 (show ((1 : Int32)).toInt = 1 from rfl); have nhs2 := lv_neT hs2 (show ((2 : Int32)).toInt = 2 from rfl); have nhs3 := lv_neT hs3 (show ((3 : Int32)).toInt = 3 from rfl); have nhs4 := lv_neT hs4 (show ((4 : Int32)).toInt = 4 from rfl); omega) (by decide) ?_
    refine lv_ldc hx hb hown (hts _ q920) dX9_kindBy_174 ?_
    obtain ⟨hF1, hF2⟩ := dx_r2 hF
    subst hF1
    subst hF2
    exact cl_ri S V hr hlocks rfl dX9_kindBy_176
  refine lv_aload_n hx hb dX9_kindBy_0 rfl (lv_at hl 0 rfl) ?_
  refine lv_astore_n (lv' := [(1, .ref a0), (0, .ref a0)]) hx hb dX9_kindBy_1 rfl hl (by decide) rfl (fun ls hl => ?_)
  refine lv_iconst (v := (-1)) hx hb dX9_kindBy_2 (by decide) ?_
  refine lv_istore_n (lv' := [(2, .int (-1 : Int32)), (1, .ref a0), (0, .ref a0)]) hx hb dX9_kindBy_3 rfl hl (by decide) rfl (fun ls hl => ?_)
  refine lv_aload_n hx hb dX9_kindBy_4 rfl (lv_at hl 1 rfl) ?_
  obtain ⟨hg, hF⟩ := dx_gd_some hF
  have k2 := of_decide_eq_true hg
  obtain ⟨r1, σ1, h1c, hF⟩ := dx_b2_some hF
  refine cl_ci (va_runV (As := []) S (cm_J4_hashCode l D dA _ A a0 o0  σ0 _ _ e0 h1c) (cwV 0 hts (lw_V q854 q855 q856 q88 q857) rfl rfl rfl ⟨rfl, cd_J4_hashCode⟩ ⟨Nat.le_of_ble_eq_true rfl, Nat.le_of_ble_eq_true rfl⟩) (cl_preVS V [] e0 k2) rfl rfl hl.1 rfl (lv_room (Nat.le_of_ble_eq_true rfl)) dX9_kindBy_5 ⟨Nat.le_of_ble_eq_true rfl, Nat.le_of_ble_eq_true rfl⟩) V (fun ad _ _ hag hle V => ?_)
  replace e0 := e0.mv hag hle
  by_cases hs0 : r1 = (100 : Int32)
  · replace hF := (if_pos hs0).symm.trans hF
    refine lv_lookup (tgt := 102) hx hb dX9_kindBy_8 (by decide) (by rw [hs0]; try decide) (by decide) ?_
    refine lv_aload_n hx hb dX9_kindBy_102 rfl (lv_at hl 1 rfl) ?_
    refine va_ldcS hx hb hown V.1.x.2.2.2.2.2.2.2.2.2.2.1 dX9_kindBy_103 ?_
    have ee3 := cl_cat (i := 7) V (by decide) (by decide)
    obtain ⟨hg, hF⟩ := dx_gd_some hF
    have k5 := of_decide_eq_true hg
    obtain ⟨r4, h4c, hF⟩ := dx_b1_some hF
    refine cl_ci (va_runV (As := [.ref (ad0 7)]) S (cm_J4_equals l D dA _ A a0 (ad0 7) o0 7  σ1 _ e0 ee3 h4c) (cwV 1 hts (lw_V q908 q909 q910 q88 q911) rfl rfl rfl ⟨rfl, cd_J4_equals⟩ ⟨Nat.le_of_ble_eq_true rfl, Nat.le_of_ble_eq_true rfl⟩) (cl_preVS V [.ref (ad0 7)] e0 k5) rfl rfl hl.1 rfl (lv_room (Nat.le_of_ble_eq_true rfl)) dX9_kindBy_105 ⟨Nat.le_of_ble_eq_true rfl, Nat.le_of_ble_eq_true rfl⟩) V (fun ad _ _ hag hle V => ?_)
    replace e0 := e0.mv hag hle
    refine lv_if_eq (tgt := 127) hx hb dX9_kindBy_108 (by decide) (fun hc => ?_) (fun hc => ?_)
    · replace hF := dx_ib_f (dx_bI_0 hc) hF
      exact hJ127 σ1 (-1 : Int32) _ _ _ _ hF V (lv_sub hl [0] rfl)
    · replace hF := dx_ib_t (dx_bI_n hc) hF
      refine lv_iconst (v := 3) hx hb dX9_kindBy_111 (by decide) ?_
      refine lv_istore_n (lv' := [(2, .int (3 : Int32)), (1, .ref a0), (0, .ref a0)]) hx hb dX9_kindBy_112 rfl hl (by decide) rfl (fun ls hl => ?_)
      refine lv_goto (tgt := 127) hx hb dX9_kindBy_113 (by decide) ?_
      exact hJ127 σ1 (3 : Int32) _ _ _ _ hF V (lv_sub hl [0] rfl)
  replace hF := (if_neg hs0).symm.trans hF
  by_cases hs1 : r1 = (104 : Int32)
  · replace hF := (if_pos hs1).symm.trans hF
    refine lv_lookup (tgt := 88) hx hb dX9_kindBy_8 (by decide) (by rw [hs1]; try decide) (by decide) ?_
    refine lv_aload_n hx hb dX9_kindBy_88 rfl (lv_at hl 1 rfl) ?_
    refine va_ldcS hx hb hown V.1.x.2.2.2.2.2.2.2.2.2.1 dX9_kindBy_89 ?_
    have ee6 := cl_cat (i := 6) V (by decide) (by decide)
    obtain ⟨hg, hF⟩ := dx_gd_some hF
    have k8 := of_decide_eq_true hg
    obtain ⟨r7, h7c, hF⟩ := dx_b1_some hF
    refine cl_ci (va_runV (As := [.ref (ad0 6)]) S (cm_J4_equals l D dA _ A a0 (ad0 6) o0 6  σ1 _ e0 ee6 h7c) (cwV 1 hts (lw_V q908 q909 q910 q88 q911) rfl rfl rfl ⟨rfl, cd_J4_equals⟩ ⟨Nat.le_of_ble_eq_true rfl, Nat.le_of_ble_eq_true rfl⟩) (cl_preVS V [.ref (ad0 6)] e0 k8) rfl rfl hl.1 rfl (lv_room (Nat.le_of_ble_eq_true rfl)) dX9_kindBy_91 ⟨Nat.le_of_ble_eq_true rfl, Nat.le_of_ble_eq_true rfl⟩) V (fun ad _ _ hag hle V => ?_)
    replace e0 := e0.mv hag hle
    refine lv_if_eq (tgt := 127) hx hb dX9_kindBy_94 (by decide) (fun hc => ?_) (fun hc => ?_)
    · replace hF := dx_ib_f (dx_bI_0 hc) hF
      exact hJ127 σ1 (-1 : Int32) _ _ _ _ hF V (lv_sub hl [0] rfl)
    · replace hF := dx_ib_t (dx_bI_n hc) hF
      refine lv_iconst (v := 2) hx hb dX9_kindBy_97 (by decide) ?_
      refine lv_istore_n (lv' := [(2, .int (2 : Int32)), (1, .ref a0), (0, .ref a0)]) hx hb dX9_kindBy_98 rfl hl (by decide) rfl (fun ls hl => ?_)
      refine lv_goto (tgt := 127) hx hb dX9_kindBy_99 (by decide) ?_
      exact hJ127 σ1 (2 : Int32) _ _ _ _ hF V (lv_sub hl [0] rfl)
  replace hF := (if_neg hs1).symm.trans hF
  by_cases hs2 : r1 = (108 : Int32)
  · replace hF := (if_pos hs2).symm.trans hF
    refine lv_lookup (tgt := 74) hx hb dX9_kindBy_8 (by decide) (by rw [hs2]; try decide) (by decide) ?_
    refine lv_aload_n hx hb dX9_kindBy_74 rfl (lv_at hl 1 rfl) ?_
    refine va_ldcS hx hb hown V.1.x.2.2.2.2.2.2.2.2.1 dX9_kindBy_75 ?_
    have ee9 := cl_cat (i := 5) V (by decide) (by decide)
    obtain ⟨hg, hF⟩ := dx_gd_some hF
    have k11 := of_decide_eq_true hg
    obtain ⟨r10, h10c, hF⟩ := dx_b1_some hF
    refine cl_ci (va_runV (As := [.ref (ad0 5)]) S (cm_J4_equals l D dA _ A a0 (ad0 5) o0 5  σ1 _ e0 ee9 h10c) (cwV 1 hts (lw_V q908 q909 q910 q88 q911) rfl rfl rfl ⟨rfl, cd_J4_equals⟩ ⟨Nat.le_of_ble_eq_true rfl, Nat.le_of_ble_eq_true rfl⟩) (cl_preVS V [.ref (ad0 5)] e0 k11) rfl rfl hl.1 rfl (lv_room (Nat.le_of_ble_eq_true rfl)) dX9_kindBy_77 ⟨Nat.le_of_ble_eq_true rfl, Nat.le_of_ble_eq_true rfl⟩) V (fun ad _ _ hag hle V => ?_)
    replace e0 := e0.mv hag hle
    refine lv_if_eq (tgt := 127) hx hb dX9_kindBy_80 (by decide) (fun hc => ?_) (fun hc => ?_)
    · replace hF := dx_ib_f (dx_bI_0 hc) hF
      exact hJ127 σ1 (-1 : Int32) _ _ _ _ hF V (lv_sub hl [0] rfl)
    · replace hF := dx_ib_t (dx_bI_n hc) hF
      refine lv_iconst (v := 1) hx hb dX9_kindBy_83 (by decide) ?_
      refine lv_istore_n (lv' := [(2, .int (1 : Int32)), (1, .ref a0), (0, .ref a0)]) hx hb dX9_kindBy_84 rfl hl (by decide) rfl (fun ls hl => ?_)
      refine lv_goto (tgt := 127) hx hb dX9_kindBy_85 (by decide) ?_
      exact hJ127 σ1 (1 : Int32) _ _ _ _ hF V (lv_sub hl [0] rfl)
  replace hF := (if_neg hs2).symm.trans hF
  by_cases hs3 : r1 = (111 : Int32)
  · replace hF := (if_pos hs3).symm.trans hF
    refine lv_lookup (tgt := 60) hx hb dX9_kindBy_8 (by decide) (by rw [hs3]; try decide) (by decide) ?_
    refine lv_aload_n hx hb dX9_kindBy_60 rfl (lv_at hl 1 rfl) ?_
    refine va_ldcS hx hb hown V.1.x.2.2.2.2.2.2.2.1 dX9_kindBy_61 ?_
    have ee12 := cl_cat (i := 4) V (by decide) (by decide)
    obtain ⟨hg, hF⟩ := dx_gd_some hF
    have k14 := of_decide_eq_true hg
    obtain ⟨r13, h13c, hF⟩ := dx_b1_some hF
    refine cl_ci (va_runV (As := [.ref (ad0 4)]) S (cm_J4_equals l D dA _ A a0 (ad0 4) o0 4  σ1 _ e0 ee12 h13c) (cwV 1 hts (lw_V q908 q909 q910 q88 q911) rfl rfl rfl ⟨rfl, cd_J4_equals⟩ ⟨Nat.le_of_ble_eq_true rfl, Nat.le_of_ble_eq_true rfl⟩) (cl_preVS V [.ref (ad0 4)] e0 k14) rfl rfl hl.1 rfl (lv_room (Nat.le_of_ble_eq_true rfl)) dX9_kindBy_63 ⟨Nat.le_of_ble_eq_true rfl, Nat.le_of_ble_eq_true rfl⟩) V (fun ad _ _ hag hle V => ?_)
    replace e0 := e0.mv hag hle
    refine lv_if_eq (tgt := 127) hx hb dX9_kindBy_66 (by decide) (fun hc => ?_) (fun hc => ?_)
    · replace hF := dx_ib_f (dx_bI_0 hc) hF
      exact hJ127 σ1 (-1 : Int32) _ _ _ _ hF V (lv_sub hl [0] rfl)
    · replace hF := dx_ib_t (dx_bI_n hc) hF
      refine lv_iconst (v := 0) hx hb dX9_kindBy_69 (by decide) ?_
      refine lv_istore_n (lv' := [(2, .int (0 : Int32)), (1, .ref a0), (0, .ref a0)]) hx hb dX9_kindBy_70 rfl hl (by decide) rfl (fun ls hl => ?_)
      refine lv_goto (tgt := 127) hx hb dX9_kindBy_71 (by decide) ?_
      exact hJ127 σ1 (0 : Int32) _ _ _ _ hF V (lv_sub hl [0] rfl)
  replace hF := (if_neg hs3).symm.trans hF
  by_cases hs4 : r1 = (115 : Int32)
  · replace hF := (if_pos hs4).symm.trans hF
    refine lv_lookup (tgt := 116) hx hb dX9_kindBy_8 (by decide) (by rw [hs4]; try decide) (by decide) ?_
    refine lv_aload_n hx hb dX9_kindBy_116 rfl (lv_at hl 1 rfl) ?_
    refine va_ldcS hx hb hown V.1.x.2.2.2.2.2.2.2.2.2.2.2 dX9_kindBy_117 ?_
    have ee15 := cl_cat (i := 8) V (by decide) (by decide)
    obtain ⟨hg, hF⟩ := dx_gd_some hF
    have k17 := of_decide_eq_true hg
    obtain ⟨r16, h16c, hF⟩ := dx_b1_some hF
    refine cl_ci (va_runV (As := [.ref (ad0 8)]) S (cm_J4_equals l D dA _ A a0 (ad0 8) o0 8  σ1 _ e0 ee15 h16c) (cwV 1 hts (lw_V q908 q909 q910 q88 q911) rfl rfl rfl ⟨rfl, cd_J4_equals⟩ ⟨Nat.le_of_ble_eq_true rfl, Nat.le_of_ble_eq_true rfl⟩) (cl_preVS V [.ref (ad0 8)] e0 k17) rfl rfl hl.1 rfl (lv_room (Nat.le_of_ble_eq_true rfl)) dX9_kindBy_119 ⟨Nat.le_of_ble_eq_true rfl, Nat.le_of_ble_eq_true rfl⟩) V (fun ad _ _ hag hle V => ?_)
    replace e0 := e0.mv hag hle
    refine lv_if_eq (tgt := 127) hx hb dX9_kindBy_122 (by decide) (fun hc => ?_) (fun hc => ?_)
    · replace hF := dx_ib_f (dx_bI_0 hc) hF
      exact hJ127 σ1 (-1 : Int32) _ _ _ _ hF V (lv_sub hl [0] rfl)
    · replace hF := dx_ib_t (dx_bI_n hc) hF
      refine lv_iconst (v := 4) hx hb dX9_kindBy_125 (by decide) ?_
      refine lv_istore_n (lv' := [(2, .int (4 : Int32)), (1, .ref a0), (0, .ref a0)]) hx hb dX9_kindBy_126 rfl hl (by decide) rfl (fun ls hl => ?_)
      exact hJ127 σ1 (4 : Int32) _ _ _ _ hF V (lv_sub hl [0] rfl)
  replace hF := (if_neg hs4).symm.trans hF
  refine lv_lookup (tgt := 127) hx hb dX9_kindBy_8 (by decide) (by have nhs0 := lv_neT hs0 (show ((100 : Int32)).toInt = 100 from rfl); have nhs1 := lv_neT hs1 (show ((104 : Int32)).toInt = 104 from rfl); have nhs2 := lv_neT hs2 (show ((108 : Int32)).toInt = 108 from rfl); have nhs3 := lv_neT hs3 (show ((111 : Int32)).toInt = 111 from rfl); have nhs4 := lv_neT hs4 (show ((115 : Int32)).toInt = 115 from rfl); show Op.lookupswitch.offset [(100, 94), (104, 80), (108, 66), (111, 52), (115, 108)] 119 _ = 119; rw [Op.lookupswitch.offset_cons, if_neg (Ne.symm nhs0), Op.lookupswitch.offset_cons, if_neg (Ne.symm nhs1), Op.lookupswitch.offset_cons, if_neg (Ne.symm nhs2), Op.lookupswitch.offset_cons, if_neg (Ne.symm nhs3), Op.lookupswitch.offset_cons, if_neg (Ne.symm nhs4)]; rfl) (by decide) ?_
  exact hJ127 σ1 (-1 : Int32) _ _ _ _ hF V (lv_sub hl [0] rfl)
theorem cd_X7_sort : yX7_sort.cls ≠ "java/lang/invoke/MethodHandle" ∧ yX7_sort.cls ≠ "java/lang/invoke/VarHandle" ∧ (parseMethodDescriptor yX7_sort.desc).map (fun d => d.parameters.length) = some 0 := by decide +kernel
set_option maxHeartbeats 4000000 in
set_option maxRecDepth 100000 in
theorem cm_X7_sort (l : Launch) (D : va_G) (dA : Nat → ClassId) (ad0 : Nat → Nat) (A : Nat → Prop) (a0 : Nat) (o0 : Nat)  (σ0 : cl_S) (r : Int32) (σ' : cl_S) (e0 : cl_at ad0 σ0 a0 o0) (hF : cl_X7_sort o0 σ0 = some (r, σ')) : cl_Ci l yX7_sort cX7_sort 1 .int ({ frames := 6, cells := 6, slots := 360, locals := 137 }) D dA ad0 A [.ref a0] σ0 r σ' := by
  refine cl_in RX7 rfl (by decide) (Nat.le_of_ble_eq_true rfl) ?_
  intro p e s m below meth c ls S hr hlocks hini hv hl
  have hx := S.1
  have hb := S.2.1
  have hown := S.2.2.2.1
  have hts := S.2.2.2.2
  obtain ⟨hN, hK, hP, hD, hA, hZ⟩ := hv
  have V : cl_V D dA (ad0, cl_n σ0) ad0 A s.heap σ0 s s.heap [] := ⟨hN, hK, hP, hD, va_S.rf, hA, hZ, fun _ _ => rfl, Nat.le_refl _⟩
  obtain ⟨ad, V, e0⟩ : ∃ ad, cl_V D dA (ad0, cl_n σ0) ad A s.heap σ0 s s.heap [] ∧ cl_at ad σ0 a0 o0 := ⟨ad0, V, e0⟩
  replace hl : lv_has ls 1 [(0, .ref a0)] := hl
  unfold cl_X7_sort at hF
  refine lv_aload_n hx hb dX7_sort_0 rfl (lv_at hl 0 rfl) ?_
  obtain ⟨hg, hF⟩ := dx_gd_some hF
  have k1 := of_decide_eq_true hg
  refine cl_gi S V e0 k1 rfl (by decide) in_X7 3 (by decide) rfl q531 rfl dX7_sort_1 ?_
  refine lv_iconst (v := 1) hx hb dX7_sort_4 (by decide) ?_
  refine lv_icmp_ne (tgt := 37) hx hb dX7_sort_5 (by decide) (fun hc => ?_) (fun hc => ?_)
  · replace hF := (if_neg hc).symm.trans hF
    refine lv_ldc hx hb hown (hts _ q563) dX7_sort_37 ?_
    refine W.widen (k := 6) (n := 360) (by first | omega | (dsimp only; omega)) (by first | omega | (dsimp only; omega)) ?_
    obtain ⟨hF1, hF2⟩ := dx_r2 hF
    subst hF1
    subst hF2
    exact cl_ri S V hr hlocks rfl dX7_sort_39
  · replace hF := (if_pos hc).symm.trans hF
    refine cl_new S V rfl (by decide) in_J10 tyJ10 tyJ10_ok cl_dfJ10 q617 q618 q97 (Nat.le_of_ble_eq_true rfl) (Nat.le_of_ble_eq_true rfl) dX7_sort_8 (fun bb2 ad _ hag ee2 V => ?_)
    replace e0 := cl_at.nw 17 0 e0 hag
    have k2 : cl_k (cl_nw σ0 17 0) (cl_n σ0 + 1) = 17 := cl_k_nw
    refine lv_dup hx hb dX7_sort_11 rfl ?_
    obtain ⟨σ3, h3c, hF⟩ := dx_b1_some hF
    refine cl_cv (va_runI (As := []) S (cm_J10_init l D dA _ A bb2 (cl_n σ0 + 1)  (cl_nw σ0 17 0) _ ee2 h3c) (cwI 0 hts (lw_meth q621) rfl rfl rfl (hts _ q97) (hts _ q619) (hts _ q620) rfl cd_J10_init ⟨Nat.le_of_ble_eq_true rfl, Nat.le_of_ble_eq_true rfl⟩) (cl_preS V [.ref bb2]) rfl rfl hl.1 rfl (lv_room (Nat.le_of_ble_eq_true rfl)) dX7_sort_12 ⟨Nat.le_of_ble_eq_true rfl, Nat.le_of_ble_eq_true rfl⟩) V (fun ad _ _ hag hle V => ?_)
    replace ee2 := ee2.mv hag hle
    replace e0 := e0.mv hag hle
    refine va_ldcS hx hb hown V.1.x.2.2.2.2.1 dX7_sort_15 ?_
    have ee4 := cl_cat (i := 1) V (by decide) (by decide)
    obtain ⟨hg, hF⟩ := dx_gd_some hF
    have k6 := of_decide_eq_true hg
    obtain ⟨r5, σ5, h5c, hF⟩ := dx_b2_some hF
    obtain ⟨hg, hF⟩ := dx_gd_some hF
    refine cl_cr (va_runV (As := [.ref (ad0 1)]) S (cm_J10_append l D dA _ A bb2 (ad0 1) (cl_n σ0 + 1) 1  σ3 _ _ ee2 ee4 h5c) (cwV 1 hts (lw_V q654 q655 q656 q97 q657) rfl rfl rfl ⟨rfl, cd_J10_append⟩ ⟨Nat.le_of_ble_eq_true rfl, Nat.le_of_ble_eq_true rfl⟩) (cl_preV V [.ref (ad0 1)] ee2 k6 rfl (by decide)) rfl rfl hl.1 rfl (lv_room (Nat.le_of_ble_eq_true rfl)) dX7_sort_17 ⟨Nat.le_of_ble_eq_true rfl, Nat.le_of_ble_eq_true rfl⟩) V (of_decide_eq_true hg) (fun bb5 ad _ _ hag hle ee5 V => ?_)
    replace e0 := e0.mv hag hle
    refine lv_aload_n hx hb dX7_sort_20 rfl (lv_at hl 0 rfl) ?_
    obtain ⟨hg, hF⟩ := dx_gd_some hF
    have k7 := of_decide_eq_true hg
    refine cl_gi S V e0 k7 rfl (by decide) in_X7 5 (by decide) rfl q533 rfl dX7_sort_21 ?_
    refine lv_i2c hx hb dX7_sort_24 rfl ?_
    obtain ⟨hg, hF⟩ := dx_gd_some hF
    have k9 := of_decide_eq_true hg
    obtain ⟨r8, σ8, h8c, hF⟩ := dx_b2_some hF
    obtain ⟨hg, hF⟩ := dx_gd_some hF
    refine cl_cr (va_runV (As := [.int (((cl_i σ5 o0 5).toUInt32 % 65536).toInt32)]) S (cm_J10_append_2 l D dA _ A bb5 r5 (((cl_i σ5 o0 5).toUInt32 % 65536).toInt32) σ5 _ _ ee5 h8c) (cwV 1 hts (lw_V q772 q773 q774 q97 q775) rfl rfl rfl ⟨rfl, cd_J10_append_2⟩ ⟨Nat.le_of_ble_eq_true rfl, Nat.le_of_ble_eq_true rfl⟩) (cl_preV V [.int (((cl_i σ5 o0 5).toUInt32 % 65536).toInt32)] ee5 k9 rfl (by decide)) rfl rfl hl.1 rfl (lv_room (Nat.le_of_ble_eq_true rfl)) dX7_sort_25 ⟨Nat.le_of_ble_eq_true rfl, Nat.le_of_ble_eq_true rfl⟩) V (of_decide_eq_true hg) (fun bb8 ad _ _ hag hle ee8 V => ?_)
    replace e0 := e0.mv hag hle
    obtain ⟨hg, hF⟩ := dx_gd_some hF
    have k11 := of_decide_eq_true hg
    obtain ⟨r10, σ10, h10c, hF⟩ := dx_b2_some hF
    obtain ⟨hg, hF⟩ := dx_gd_some hF
    refine cl_cr (va_runV (As := []) S (cm_J10_toString l D dA _ A bb8 r8  σ8 _ _ ee8 h10c) (cwV 0 hts (lw_V q794 q795 q796 q97 q797) rfl rfl rfl ⟨rfl, cd_J10_toString⟩ ⟨Nat.le_of_ble_eq_true rfl, Nat.le_of_ble_eq_true rfl⟩) (cl_preV V [] ee8 k11 rfl (by decide)) rfl rfl hl.1 rfl (lv_room (Nat.le_of_ble_eq_true rfl)) dX7_sort_28 ⟨Nat.le_of_ble_eq_true rfl, Nat.le_of_ble_eq_true rfl⟩) V (of_decide_eq_true hg) (fun bb10 ad _ _ hag hle ee10 V => ?_)
    replace e0 := e0.mv hag hle
    obtain ⟨r12, σ12, h12c, hF⟩ := dx_b2_some hF
    refine cl_ci (va_runS (As := [.ref bb10]) S (cm_X9_kindBy l D dA _ A bb10 r10  σ10 _ _ ee10 h12c) (va_cwS 1 hts (lw_S q851 q852 q104 q853) rfl rfl rfl cd_X9_kindBy ⟨Nat.le_of_ble_eq_true rfl, Nat.le_of_ble_eq_true rfl⟩) (cl_preS V [.ref bb10]) rfl rfl hl.1 rfl (lv_room (Nat.le_of_ble_eq_true rfl)) dX7_sort_31 ⟨Nat.le_of_ble_eq_true rfl, Nat.le_of_ble_eq_true rfl⟩) V (fun ad _ _ hag hle V => ?_)
    replace e0 := e0.mv hag hle
    refine lv_goto (tgt := 39) hx hb dX7_sort_34 (by decide) ?_
    refine W.widen (k := 6) (n := 360) (by first | omega | (dsimp only; omega)) (by first | omega | (dsimp only; omega)) ?_
    obtain ⟨hF1, hF2⟩ := dx_r2 hF
    subst hF1
    subst hF2
    exact cl_ri S V hr hlocks rfl dX7_sort_39
theorem cd_X7_person : yX7_person.cls ≠ "java/lang/invoke/MethodHandle" ∧ yX7_person.cls ≠ "java/lang/invoke/VarHandle" ∧ (parseMethodDescriptor yX7_person.desc).map (fun d => d.parameters.length) = some 0 := by decide +kernel
set_option maxHeartbeats 4000000 in
set_option maxRecDepth 100000 in
theorem cm_X7_person (l : Launch) (hlt : l.stackTraces = false) (D : va_G) (dA : Nat → ClassId) (ad0 : Nat → Nat) (A : Nat → Prop) (a0 : Nat) (o0 : Nat)  (σ0 : cl_S) (z : Unit ⊕ Nat) (σ' : cl_S) (e0 : cl_at ad0 σ0 a0 o0) (hF : cl_X7_person o0 σ0 = some (z, σ')) : cx_Cv l yX7_person cX7_person 2 ({ frames := 7, cells := 9, slots := 377, locals := 157 }) D dA ad0 A [.ref a0] σ0 z σ' := by
  refine cx_in RX7 rfl (by decide) (Nat.le_of_ble_eq_true rfl) ?_
  intro p e s m below meth c ls S hr hlocks hini htab hv hl
  have hx := S.1
  have hb := S.2.1
  have hown := S.2.2.2.1
  have hts := S.2.2.2.2
  obtain ⟨hN, hK, hP, hD, hA, hZ⟩ := hv
  have V : cl_V D dA (ad0, cl_n σ0) ad0 A s.heap σ0 s s.heap [] := ⟨hN, hK, hP, hD, va_S.rf, hA, hZ, fun _ _ => rfl, Nat.le_refl _⟩
  obtain ⟨ad, V, e0⟩ : ∃ ad, cl_V D dA (ad0, cl_n σ0) ad A s.heap σ0 s s.heap [] ∧ cl_at ad σ0 a0 o0 := ⟨ad0, V, e0⟩
  replace hl : lv_has ls 2 [(0, .ref a0)] := hl
  unfold cl_X7_person at hF
  have hJ20 : ∀ (σ : cl_S) (v1 : Int32) (t1 : Bool) (ad : Nat → Nat) (H : Heap) (locs : List Loc) (ls : Array Slot), cl_X7_person_J20 o0 σ v1 t1 = some (z, σ') → cl_at ad σ a0 o0 → cl_at ad σ a0 o0 → cl_V D dA (ad0, cl_n σ0) ad A s.heap σ s H locs → lv_has ls 2 [(0, .ref a0), (1, .int v1)] → W p l e ({ frames := 7, cells := 9, slots := 377, locals := 157 }) s m ([.ref a0] : List Value).toArray below meth c H locs 0 0 (vx_MQ below (cx_Qv D dA ad0 A σ0 σ' z) (cx_X D dA ad0 A σ0 σ' z) ([.ref a0] : List Value).toArray s 9 377 A) (F0 m 20 ls [.int (dx_bI t1), .ref a0]) := by
    intro σ v1 t1 ad H locs ls hF e0 e0 V hl
    unfold cl_X7_person_J20 at hF
    refine lv_iconst (v := 3) hx hb dX7_person_20 (by decide) ?_
    obtain ⟨hg, hF⟩ := dx_gd_some hF
    have k5 := of_decide_eq_true hg
    obtain ⟨z4, σ4, h4c, hF⟩ := dx_bx_some hF
    refine cx_cv (vx_runV (As := [.int (dx_bI t1), .int (3 : Int32)]) S (cm_X7_must l hlt D dA _ A a0 o0 t1 (3 : Int32) σ _ _ e0 h4c) (cwV 2 hts (lw_V q573 q575 qs10 q94 q576) rfl rfl rfl ⟨rfl, cd_X7_must⟩ ⟨Nat.le_of_ble_eq_true rfl, Nat.le_of_ble_eq_true rfl⟩) (cl_preV V [.int (dx_bI t1), .int (3 : Int32)] e0 k5 rfl (by decide)) rfl rfl hl.1 rfl (lv_room (Nat.le_of_ble_eq_true rfl)) dX7_person_21 ⟨Nat.le_of_ble_eq_true rfl, Nat.le_of_ble_eq_true rfl⟩) V (fun x4 ce q9 ad _ _ hz hag hle hq9 V hce hcv hcl => ?_) (fun _ ad _ _ hz hag hle V => ?_)
    · subst hz
      replace hF := dx_xs_r hF
      replace e0 := e0.mv hag hle
      obtain ⟨hF1, hF2⟩ := dx_r2 hF
      subst hF1
      subst hF2
      exact cx_out V htab hlocks hq9 hce hcv hcl (by first | omega | (dsimp only; omega)) (by first | omega | (dsimp only; omega))
    · subst hz
      replace hF := dx_xs_l hF
      replace e0 := e0.mv hag hle
      refine lv_aload_n hx hb dX7_person_24 rfl (lv_at hl 0 rfl) ?_
      obtain ⟨hg, hF⟩ := dx_gd_some hF
      have k6 := of_decide_eq_true hg
      obtain ⟨hg, hF⟩ := dx_gd_some hF
      refine cl_gr S V e0 k6 rfl (by decide) in_X7 6 (by decide) rfl q534 rfl dX7_person_25 (of_decide_eq_true hg) (fun bb7 ee7 => ?_)
      obtain ⟨hg, hF⟩ := dx_gd_some hF
      have k8 := of_decide_eq_true hg
      obtain ⟨hg, hF⟩ := dx_gd_some hF
      refine cl_gr S V ee7 k8 rfl (by decide) in_X2 4 (by decide) rfl q165 rfl dX7_person_28 (of_decide_eq_true hg) (fun bb9 ee9 => ?_)
      refine lv_iload_n hx hb dX7_person_31 rfl (lv_at hl 1 rfl) ?_
      refine lv_aload_n hx hb dX7_person_32 rfl (lv_at hl 0 rfl) ?_
      obtain ⟨r10, σ10, h10c, hF⟩ := dx_b2_some hF
      refine cl_ci (va_runV (As := []) S (cm_X7_sort l D dA _ A a0 o0  σ4 _ _ e0 h10c) (cwV 0 hts (lw_V q613 q615 qs13 q94 q616) rfl rfl rfl ⟨rfl, cd_X7_sort⟩ ⟨Nat.le_of_ble_eq_true rfl, Nat.le_of_ble_eq_true rfl⟩) (cl_preV V [] e0 k6 rfl (by decide)) rfl rfl hl.1 rfl (lv_room (Nat.le_of_ble_eq_true rfl)) dX7_person_33 ⟨Nat.le_of_ble_eq_true rfl, Nat.le_of_ble_eq_true rfl⟩) V (fun ad _ _ hag hle V => ?_)
      replace ee9 := ee9.mv hag hle
      replace e0 := e0.mv hag hle
      refine lv_iload_n hx hb dX7_person_36 rfl (lv_at hl 1 rfl) ?_
      obtain ⟨r11, σ11, h11c, hF⟩ := dx_b2_some hF
      obtain ⟨hg, hF⟩ := dx_gd_some hF
      refine cl_cr (va_runSN (As := [.int r10, .int v1]) S (cm_X0_personBy l D dA _ A   r10 v1 σ10 _ _  h11c) ⟨va_cnB 2 hts (lw_meth q927) rfl rfl rfl (V.1.1 _ cn_q925) (hts _ q77) cd_X0_personBy ⟨Nat.le_of_ble_eq_true rfl, Nat.le_of_ble_eq_true rfl⟩, hts _ q926, trivial⟩ (cl_preS V [.int r10, .int v1]) rfl rfl hl.1 rfl (lv_room (Nat.le_of_ble_eq_true rfl)) dX7_person_37 ⟨Nat.le_of_ble_eq_true rfl, Nat.le_of_ble_eq_true rfl⟩) V (of_decide_eq_true hg) (fun bb11 ad _ _ hag hle ee11 V => ?_)
      replace ee9 := ee9.mv hag hle
      replace e0 := e0.mv hag hle
      obtain ⟨hg, hF⟩ := dx_gd_some hF
      have k12 := of_decide_eq_true hg
      obtain ⟨hi13, hF⟩ := dx_gd_some hF
      obtain ⟨hg, hF⟩ := dx_gd_some hF
      have k14 := of_decide_eq_true hg
      refine cl_sa 4 25 S V ee9 k12 (by decide) rfl (dx_inb_in hi13) ee11 (cl_anyP V ee11 k14) dX7_person_40 (fun _ _ V => ?_)
      obtain ⟨σ15, eσ15⟩ : ∃ x, x = (cl_wr σ11 (cl_r σ4 (cl_r σ4 o0 6) 4) v1.toNatClampNeg r11) := ⟨_, rfl⟩
      rw [← eσ15] at V
      replace hF := dx_let_e eσ15 hF
      replace e0 : cl_at ad σ15 a0 o0 := by rw [eσ15]; exact e0
      replace k12 : cl_k σ15 (cl_r σ4 (cl_r σ4 o0 6) 4) = 25 := by rw [eσ15]; exact k12
      replace k14 : 9 ≤ cl_k σ15 r11 ∧ cl_k σ15 r11 ≤ 13 := by rw [eσ15]; exact k14
      refine lv_aload_n hx hb dX7_person_41 rfl (lv_at hl 0 rfl) ?_
      obtain ⟨hg, hF⟩ := dx_gd_some hF
      have k17 := of_decide_eq_true hg
      obtain ⟨σ16, h16c, hF⟩ := dx_b1_some hF
      refine cl_cv (va_runV (As := []) S (cm_X7_next l D dA _ A a0 o0  σ15 _ e0 h16c) (cwV 0 hts (lw_V q555 q557 qs7 q94 q558) rfl rfl rfl ⟨rfl, cd_X7_next⟩ ⟨Nat.le_of_ble_eq_true rfl, Nat.le_of_ble_eq_true rfl⟩) (cl_preV V [] e0 k17 rfl (by decide)) rfl rfl hl.1 rfl (lv_room (Nat.le_of_ble_eq_true rfl)) dX7_person_42 ⟨Nat.le_of_ble_eq_true rfl, Nat.le_of_ble_eq_true rfl⟩) V (fun ad _ _ hag hle V => ?_)
      replace e0 := e0.mv hag hle
      refine lv_aload_n hx hb dX7_person_45 rfl (lv_at hl 0 rfl) ?_
      refine lv_bipush (v := 59) hx hb dX7_person_46 (by decide) ?_
      obtain ⟨hg, hF⟩ := dx_gd_some hF
      have k19 := of_decide_eq_true hg
      obtain ⟨z18, σ18, h18c, hF⟩ := dx_bx_some hF
      refine cx_cv (vx_runV (As := [.int (59 : Int32)]) S (cm_X7_sign l hlt D dA _ A a0 o0 (59 : Int32) σ16 _ _ e0 h18c) (cwV 1 hts (lw_V q609 q611 qs12 q94 q612) rfl rfl rfl ⟨rfl, cd_X7_sign⟩ ⟨Nat.le_of_ble_eq_true rfl, Nat.le_of_ble_eq_true rfl⟩) (cl_preV V [.int (59 : Int32)] e0 k19 rfl (by decide)) rfl rfl hl.1 rfl (lv_room (Nat.le_of_ble_eq_true rfl)) dX7_person_48 ⟨Nat.le_of_ble_eq_true rfl, Nat.le_of_ble_eq_true rfl⟩) V (fun x18 ce q9 ad _ _ hz hag hle hq9 V hce hcv hcl => ?_) (fun _ ad _ _ hz hag hle V => ?_)
      · subst hz
        replace hF := dx_xs_r hF
        replace e0 := e0.mv hag hle
        obtain ⟨hF1, hF2⟩ := dx_r2 hF
        subst hF1
        subst hF2
        exact cx_out V htab hlocks hq9 hce hcv hcl (by first | omega | (dsimp only; omega)) (by first | omega | (dsimp only; omega))
      · subst hz
        replace hF := dx_xs_l hF
        replace e0 := e0.mv hag hle
        refine lv_aload_n hx hb dX7_person_51 rfl (lv_at hl 0 rfl) ?_
        obtain ⟨hg, hF⟩ := dx_gd_some hF
        have k20 := of_decide_eq_true hg
        obtain ⟨hg, hF⟩ := dx_gd_some hF
        refine cl_gr S V e0 k20 rfl (by decide) in_X7 6 (by decide) rfl q534 rfl dX7_person_52 (of_decide_eq_true hg) (fun bb21 ee21 => ?_)
        refine lv_dup hx hb dX7_person_55 rfl ?_
        obtain ⟨hg, hF⟩ := dx_gd_some hF
        have k22 := of_decide_eq_true hg
        refine cl_gi S V ee21 k22 rfl (by decide) in_X2 0 (by decide) rfl q151 rfl dX7_person_56 ?_
        refine lv_iconst (v := 1) hx hb dX7_person_59 (by decide) ?_
        refine lv_iadd hx hb dX7_person_60 ?_
        refine cl_pi S V ee21 k22 rfl (by decide) in_X2 tyX2 tyX2_ok nmX2 0 (by decide) rfl q151 rfl rfl rfl dX7_person_61 (fun _ _ V => ?_)
        obtain ⟨σ23, eσ23⟩ : ∃ x, x = (cl_wi σ18 (cl_r σ18 o0 6) 0 ((cl_i σ18 (cl_r σ18 o0 6) 0) + (1 : Int32))) := ⟨_, rfl⟩
        rw [← eσ23] at V
        replace hF := dx_let_e eσ23 hF
        replace e0 : cl_at ad σ23 a0 o0 := by rw [eσ23]; exact e0
        replace k20 : cl_k σ23 o0 = 7 := by rw [eσ23]; exact k20
        replace k22 : cl_k σ23 (cl_r σ18 o0 6) = 2 := by rw [eσ23]; exact k22
        refine W.widen (k := 9) (n := 377) (by first | omega | (dsimp only; omega)) (by first | omega | (dsimp only; omega)) ?_
        obtain ⟨hF1, hF2⟩ := dx_r2 hF
        subst hF1
        subst hF2
        exact cx_rv S V hr hlocks dX7_person_64
  refine lv_aload_n hx hb dX7_person_0 rfl (lv_at hl 0 rfl) ?_
  obtain ⟨hg, hF⟩ := dx_gd_some hF
  have k1 := of_decide_eq_true hg
  obtain ⟨hg, hF⟩ := dx_gd_some hF
  refine cl_gr S V e0 k1 rfl (by decide) in_X7 6 (by decide) rfl q534 rfl dX7_person_1 (of_decide_eq_true hg) (fun bb2 ee2 => ?_)
  obtain ⟨hg, hF⟩ := dx_gd_some hF
  have k3 := of_decide_eq_true hg
  refine cl_gi S V ee2 k3 rfl (by decide) in_X2 0 (by decide) rfl q151 rfl dX7_person_4 ?_
  refine lv_istore_n (lv' := [(1, .int (cl_i σ0 (cl_r σ0 o0 6) 0)), (0, .ref a0)]) hx hb dX7_person_7 rfl hl (by decide) rfl (fun ls hl => ?_)
  refine lv_aload_n hx hb dX7_person_8 rfl (lv_at hl 1 rfl) ?_
  refine lv_iload_n hx hb dX7_person_9 rfl (lv_at hl 0 rfl) ?_
  refine lv_bipush (v := 9) hx hb dX7_person_10 (by decide) ?_
  refine lv_icmp_ge (tgt := 19) hx hb dX7_person_12 (by decide) (fun hc => ?_) (fun hc => ?_)
  · replace hF := (if_pos hc).symm.trans hF
    refine lv_iconst (v := 0) hx hb dX7_person_19 (by decide) ?_
    refine W.widen (k := 0) (n := 0) (by first | omega | (dsimp only; omega)) (by first | omega | (dsimp only; omega)) ?_
    exact hJ20 σ0 (cl_i σ0 (cl_r σ0 o0 6) 0) false _ _ _ _ hF e0 e0 V (lv_sub hl [1, 0] rfl)
  · replace hF := (if_neg hc).symm.trans hF
    refine lv_iconst (v := 1) hx hb dX7_person_15 (by decide) ?_
    refine lv_goto (tgt := 20) hx hb dX7_person_16 (by decide) ?_
    refine W.widen (k := 0) (n := 0) (by first | omega | (dsimp only; omega)) (by first | omega | (dsimp only; omega)) ?_
    exact hJ20 σ0 (cl_i σ0 (cl_r σ0 o0 6) 0) true _ _ _ _ hF e0 e0 V (lv_sub hl [1, 0] rfl)
theorem cd_X7_all : yX7_all.cls ≠ "java/lang/invoke/MethodHandle" ∧ yX7_all.cls ≠ "java/lang/invoke/VarHandle" ∧ (parseMethodDescriptor yX7_all.desc).map (fun d => d.parameters.length) = some 0 := by decide +kernel
set_option maxHeartbeats 4000000 in
set_option maxRecDepth 100000 in
theorem cm_X7_all (l : Launch) (hlt : l.stackTraces = false) (D : va_G) (dA : Nat → ClassId) (ad0 : Nat → Nat) (A : Nat → Prop) (a0 : Nat) (o0 : Nat)  (σ0 : cl_S) (z : Unit ⊕ Nat) (σ' : cl_S) (e0 : cl_at ad0 σ0 a0 o0) (hF : cl_X7_all o0 σ0 = some (z, σ')) : cx_Cv l yX7_all cX7_all 1 ({ frames := 8, cells := 592, slots := 11835, locals := 178 }) D dA ad0 A [.ref a0] σ0 z σ' := by
  refine cx_in RX7 rfl (by decide) (Nat.le_of_ble_eq_true rfl) ?_
  intro p e s m below meth c ls S hr hlocks hini htab hv hl
  have hx := S.1
  have hb := S.2.1
  have hown := S.2.2.2.1
  have hts := S.2.2.2.2
  obtain ⟨hN, hK, hP, hD, hA, hZ⟩ := hv
  have V : cl_V D dA (ad0, cl_n σ0) ad0 A s.heap σ0 s s.heap [] := ⟨hN, hK, hP, hD, va_S.rf, hA, hZ, fun _ _ => rfl, Nat.le_refl _⟩
  obtain ⟨ad, V, e0⟩ : ∃ ad, cl_V D dA (ad0, cl_n σ0) ad A s.heap σ0 s s.heap [] ∧ cl_at ad σ0 a0 o0 := ⟨ad0, V, e0⟩
  replace hl : lv_has ls 1 [(0, .ref a0)] := hl
  unfold cl_X7_all at hF
  have hJ148 : ∀ (σ : cl_S) (t1 : Bool) (ad : Nat → Nat) (H : Heap) (locs : List Loc) (ls : Array Slot), cl_X7_all_J148 o0 σ t1 = some (z, σ') → cl_at ad σ a0 o0 → cl_V D dA (ad0, cl_n σ0) ad A s.heap σ s H locs → lv_has ls 1 [] → W p l e ({ frames := 8, cells := 592, slots := 11835, locals := 178 }) s m ([.ref a0] : List Value).toArray below meth c H locs 591 11827 (vx_MQ below (cx_Qv D dA ad0 A σ0 σ' z) (cx_X D dA ad0 A σ0 σ' z) ([.ref a0] : List Value).toArray s 592 11835 A) (F0 m 148 ls [.int (dx_bI t1), .ref a0]) := by
    intro σ t1 ad H locs ls hF e0 V hl
    unfold cl_X7_all_J148 at hF
    refine lv_iconst (v := 1) hx hb dX7_all_148 (by decide) ?_
    obtain ⟨hg, hF⟩ := dx_gd_some hF
    have k33 := of_decide_eq_true hg
    obtain ⟨z32, σ32, h32c, hF⟩ := dx_bx_some hF
    refine cx_cv (vx_runV (As := [.int (dx_bI t1), .int (1 : Int32)]) S (cm_X7_must l hlt D dA _ A a0 o0 t1 (1 : Int32) σ _ _ e0 h32c) (cwV 2 hts (lw_V q573 q575 qs10 q94 q576) rfl rfl rfl ⟨rfl, cd_X7_must⟩ ⟨Nat.le_of_ble_eq_true rfl, Nat.le_of_ble_eq_true rfl⟩) (cl_preV V [.int (dx_bI t1), .int (1 : Int32)] e0 k33 rfl (by decide)) rfl rfl hl.1 rfl (lv_room (Nat.le_of_ble_eq_true rfl)) dX7_all_149 ⟨Nat.le_of_ble_eq_true rfl, Nat.le_of_ble_eq_true rfl⟩) V (fun x32 ce q9 ad _ _ hz hag hle hq9 V hce hcv hcl => ?_) (fun _ ad _ _ hz hag hle V => ?_)
    · subst hz
      replace hF := dx_xs_r hF
      obtain ⟨hF1, hF2⟩ := dx_r2 hF
      subst hF1
      subst hF2
      exact cx_out V htab hlocks hq9 hce hcv hcl (by first | omega | (dsimp only; omega)) (by first | omega | (dsimp only; omega))
    · subst hz
      replace hF := dx_xs_l hF
      refine W.widen (k := 592) (n := 11835) (by first | omega | (dsimp only; omega)) (by first | omega | (dsimp only; omega)) ?_
      obtain ⟨hF1, hF2⟩ := dx_r2 hF
      subst hF1
      subst hF2
      exact cx_rv S V hr hlocks dX7_all_152
  have hL118 : ∀  (n : Nat) (σ : cl_S) (ad : Nat → Nat) (hn : n ≤ 40) (H : Heap) (locs : List Loc) (ls : Array Slot), dx_lp (fun x => cl_X7_all_L118 o0 x) n σ = some (z, σ') → cl_at ad σ a0 o0 → cl_V D dA (ad0, cl_n σ0) ad A s.heap σ s H locs → lv_has ls 1 [(0, .ref a0)] → W p l e ({ frames := 8, cells := 592, slots := 11835, locals := 178 }) s m ([.ref a0] : List Value).toArray below meth c H locs (311 + 7 * (40 - n)) (9587 + 56 * (40 - n)) (vx_MQ below (cx_Qv D dA ad0 A σ0 σ' z) (cx_X D dA ad0 A σ0 σ' z) ([.ref a0] : List Value).toArray s 592 11835 A) (F0 m 118 ls []) := by
    intro n
    induction n with
    | zero =>
      intro σ ad hn H locs ls hF e0 V hl
      exact (dx_lp_0 hF).elim
    | succ n ih118 =>
      intro σ ad hn H locs ls hF e0 V hl
      obtain ⟨y118, hF, hz118⟩ := dx_lp_s hF
      replace hF : cl_X7_all_L118 o0 σ = some y118 := hF
      unfold cl_X7_all_L118 at hF
      refine lv_aload_n hx hb dX7_all_118 rfl (lv_at hl 0 rfl) ?_
      refine lv_iconst (v := 1) hx hb dX7_all_119 (by decide) ?_
      refine lv_bipush (v := 105) hx hb dX7_all_120 (by decide) ?_
      obtain ⟨hg, hF⟩ := dx_gd_some hF
      have k31 := of_decide_eq_true hg
      obtain ⟨r30, h30c, hF⟩ := dx_b1_some hF
      refine cl_ci (va_runV (As := [.int (1 : Int32), .int (105 : Int32)]) S (cm_X7_is l D dA _ A a0 o0 (1 : Int32) (105 : Int32) σ _ e0 h30c) (cwV 2 hts (lw_V q569 q571 qs9 q94 q572) rfl rfl rfl ⟨rfl, cd_X7_is⟩ ⟨Nat.le_of_ble_eq_true rfl, Nat.le_of_ble_eq_true rfl⟩) (cl_preV V [.int (1 : Int32), .int (105 : Int32)] e0 k31 rfl (by decide)) rfl rfl hl.1 rfl (lv_room (Nat.le_of_ble_eq_true rfl)) dX7_all_122 ⟨by show _ ≤ 592; first | omega | (dsimp only; omega), by show _ ≤ 11835; first | omega | (dsimp only; omega)⟩) V (fun ad _ _ hag hle V => ?_)
      replace e0 := e0.mv hag hle
      refine lv_if_eq (tgt := 135) hx hb dX7_all_125 (by decide) (fun hc => ?_) (fun hc => ?_)
      · replace hF := dx_ib_f (dx_bI_0 hc) hF
        replace hF := dx_ex_k hF hz118
        refine W.widen (k := 591) (n := 11827) (by first | omega | (dsimp only; omega)) (by first | omega | (dsimp only; omega)) ?_
        refine lv_aload_n hx hb dX7_all_135 rfl (lv_at hl 0 rfl) ?_
        refine lv_aload_n hx hb dX7_all_136 rfl (lv_at hl 0 rfl) ?_
        refine cl_gi S V e0 k31 rfl (by decide) in_X7 3 (by decide) rfl q531 rfl dX7_all_137 ?_
        refine lv_if_ne (tgt := 147) hx hb dX7_all_140 (by decide) (fun hc => ?_) (fun hc => ?_)
        · replace hF := (if_neg hc).symm.trans hF
          refine lv_iconst (v := 0) hx hb dX7_all_147 (by decide) ?_
          refine W.widen (k := 591) (n := 11827) (by first | omega | (dsimp only; omega)) (by first | omega | (dsimp only; omega)) ?_
          exact hJ148 σ false _ _ _ _ hF e0 V (lv_sub hl [] rfl)
        · replace hF := (if_pos hc).symm.trans hF
          refine lv_iconst (v := 1) hx hb dX7_all_143 (by decide) ?_
          refine lv_goto (tgt := 148) hx hb dX7_all_144 (by decide) ?_
          refine W.widen (k := 591) (n := 11827) (by first | omega | (dsimp only; omega)) (by first | omega | (dsimp only; omega)) ?_
          exact hJ148 σ true _ _ _ _ hF e0 V (lv_sub hl [] rfl)
      · replace hF := dx_ib_t (dx_bI_n hc) hF
        refine lv_aload_n hx hb dX7_all_128 rfl (lv_at hl 0 rfl) ?_
        obtain ⟨z34, σ34, h34c, hF⟩ := dx_bx_some hF
        refine cx_cv (vx_runV (As := []) S (cm_X7_ill l hlt D dA _ A a0 o0  σ _ _ e0 h34c) (cwV 0 hts (lw_V q977 q979 qs16 q94 q980) rfl rfl rfl ⟨rfl, cd_X7_ill⟩ ⟨Nat.le_of_ble_eq_true rfl, Nat.le_of_ble_eq_true rfl⟩) (cl_preV V [] e0 k31 rfl (by decide)) rfl rfl hl.1 rfl (lv_room (Nat.le_of_ble_eq_true rfl)) dX7_all_129 ⟨by show _ ≤ 592; first | omega | (dsimp only; omega), by show _ ≤ 11835; first | omega | (dsimp only; omega)⟩) V (fun x34 ce q9 ad _ _ hz hag hle hq9 V hce hcv hcl => ?_) (fun _ ad _ _ hz hag hle V => ?_)
        · subst hz
          replace hF := dx_xs_r hF
          replace e0 := e0.mv hag hle
          replace hF := dx_ex_k hF hz118
          obtain ⟨hF1, hF2⟩ := dx_r2 hF
          subst hF1
          subst hF2
          exact cx_out V htab hlocks hq9 hce hcv hcl (by first | omega | (dsimp only; omega)) (by first | omega | (dsimp only; omega))
        · subst hz
          replace hF := dx_xs_l hF
          replace e0 := e0.mv hag hle
          refine lv_goto (tgt := 118) hx hb dX7_all_132 (by decide) ?_
          refine W.widen (k := 311 + 7 * (40 - n)) (n := 9587 + 56 * (40 - n)) (by first | omega | (dsimp only; omega)) (by first | omega | (dsimp only; omega)) ?_
          replace hF := Option.some.inj hF
          subst hF
          exact ih118 σ34 _ (by omega) _ _ _ (dx_lk_l hz118) e0 V (lv_sub hl [0] rfl)
  have hL101 : ∀  (n : Nat) (σ : cl_S) (ad : Nat → Nat) (hn : n ≤ 12) (H : Heap) (locs : List Loc) (ls : Array Slot), dx_lp (fun x => cl_X7_all_L101 o0 x) n σ = some (z, σ') → cl_at ad σ a0 o0 → cl_V D dA (ad0, cl_n σ0) ad A s.heap σ s H locs → lv_has ls 1 [(0, .ref a0)] → W p l e ({ frames := 8, cells := 592, slots := 11835, locals := 178 }) s m ([.ref a0] : List Value).toArray below meth c H locs (179 + 11 * (12 - n)) (8531 + 88 * (12 - n)) (vx_MQ below (cx_Qv D dA ad0 A σ0 σ' z) (cx_X D dA ad0 A σ0 σ' z) ([.ref a0] : List Value).toArray s 592 11835 A) (F0 m 101 ls []) := by
    intro n
    induction n with
    | zero =>
      intro σ ad hn H locs ls hF e0 V hl
      exact (dx_lp_0 hF).elim
    | succ n ih101 =>
      intro σ ad hn H locs ls hF e0 V hl
      obtain ⟨y101, hF, hz101⟩ := dx_lp_s hF
      replace hF : cl_X7_all_L101 o0 σ = some y101 := hF
      unfold cl_X7_all_L101 at hF
      refine lv_aload_n hx hb dX7_all_101 rfl (lv_at hl 0 rfl) ?_
      refine lv_iconst (v := 1) hx hb dX7_all_102 (by decide) ?_
      refine lv_bipush (v := 99) hx hb dX7_all_103 (by decide) ?_
      obtain ⟨hg, hF⟩ := dx_gd_some hF
      have k29 := of_decide_eq_true hg
      obtain ⟨r28, h28c, hF⟩ := dx_b1_some hF
      refine cl_ci (va_runV (As := [.int (1 : Int32), .int (99 : Int32)]) S (cm_X7_is l D dA _ A a0 o0 (1 : Int32) (99 : Int32) σ _ e0 h28c) (cwV 2 hts (lw_V q569 q571 qs9 q94 q572) rfl rfl rfl ⟨rfl, cd_X7_is⟩ ⟨Nat.le_of_ble_eq_true rfl, Nat.le_of_ble_eq_true rfl⟩) (cl_preV V [.int (1 : Int32), .int (99 : Int32)] e0 k29 rfl (by decide)) rfl rfl hl.1 rfl (lv_room (Nat.le_of_ble_eq_true rfl)) dX7_all_105 ⟨by show _ ≤ 592; first | omega | (dsimp only; omega), by show _ ≤ 11835; first | omega | (dsimp only; omega)⟩) V (fun ad _ _ hag hle V => ?_)
      replace e0 := e0.mv hag hle
      refine lv_if_eq (tgt := 118) hx hb dX7_all_108 (by decide) (fun hc => ?_) (fun hc => ?_)
      · replace hF := dx_ib_f (dx_bI_0 hc) hF
        replace hF := dx_ex_k hF hz101
        refine W.widen (k := 311) (n := 9587) (by first | omega | (dsimp only; omega)) (by first | omega | (dsimp only; omega)) ?_
        refine W.widen (k := 311 + 7 * (40 - 40)) (n := 9587 + 56 * (40 - 40)) (by first | omega | (dsimp only; omega)) (by first | omega | (dsimp only; omega)) ?_
        exact hL118  40 σ _ (by omega) _ _ _ hF e0 V (lv_sub hl [0] rfl)
      · replace hF := dx_ib_t (dx_bI_n hc) hF
        refine lv_aload_n hx hb dX7_all_111 rfl (lv_at hl 0 rfl) ?_
        obtain ⟨z35, σ35, h35c, hF⟩ := dx_bx_some hF
        refine cx_cv (vx_runV (As := []) S (cm_X7_contact l hlt D dA _ A a0 o0  σ _ _ e0 h35c) (cwV 0 hts (lw_V q973 q975 qs15 q94 q976) rfl rfl rfl ⟨rfl, cd_X7_contact⟩ ⟨Nat.le_of_ble_eq_true rfl, Nat.le_of_ble_eq_true rfl⟩) (cl_preV V [] e0 k29 rfl (by decide)) rfl rfl hl.1 rfl (lv_room (Nat.le_of_ble_eq_true rfl)) dX7_all_112 ⟨by show _ ≤ 592; first | omega | (dsimp only; omega), by show _ ≤ 11835; first | omega | (dsimp only; omega)⟩) V (fun x35 ce q9 ad _ _ hz hag hle hq9 V hce hcv hcl => ?_) (fun _ ad _ _ hz hag hle V => ?_)
        · subst hz
          replace hF := dx_xs_r hF
          replace e0 := e0.mv hag hle
          replace hF := dx_ex_k hF hz101
          obtain ⟨hF1, hF2⟩ := dx_r2 hF
          subst hF1
          subst hF2
          exact cx_out V htab hlocks hq9 hce hcv hcl (by first | omega | (dsimp only; omega)) (by first | omega | (dsimp only; omega))
        · subst hz
          replace hF := dx_xs_l hF
          replace e0 := e0.mv hag hle
          refine lv_goto (tgt := 101) hx hb dX7_all_115 (by decide) ?_
          refine W.widen (k := 179 + 11 * (12 - n)) (n := 8531 + 88 * (12 - n)) (by first | omega | (dsimp only; omega)) (by first | omega | (dsimp only; omega)) ?_
          replace hF := Option.some.inj hF
          subst hF
          exact ih101 σ35 _ (by omega) _ _ _ (dx_lk_l hz101) e0 V (lv_sub hl [0] rfl)
  have hL85 : ∀  (n : Nat) (σ : cl_S) (ad : Nat → Nat) (hn : n ≤ 11) (H : Heap) (locs : List Loc) (ls : Array Slot), dx_lp (fun x => cl_X7_all_L85 o0 x) n σ = some (z, σ') → cl_at ad σ a0 o0 → cl_V D dA (ad0, cl_n σ0) ad A s.heap σ s H locs → lv_has ls 1 [(0, .ref a0)] → W p l e ({ frames := 8, cells := 592, slots := 11835, locals := 178 }) s m ([.ref a0] : List Value).toArray below meth c H locs (14 + 15 * (11 - n)) (424 + 737 * (11 - n)) (vx_MQ below (cx_Qv D dA ad0 A σ0 σ' z) (cx_X D dA ad0 A σ0 σ' z) ([.ref a0] : List Value).toArray s 592 11835 A) (F0 m 85 ls []) := by
    intro n
    induction n with
    | zero =>
      intro σ ad hn H locs ls hF e0 V hl
      exact (dx_lp_0 hF).elim
    | succ n ih85 =>
      intro σ ad hn H locs ls hF e0 V hl
      obtain ⟨y85, hF, hz85⟩ := dx_lp_s hF
      replace hF : cl_X7_all_L85 o0 σ = some y85 := hF
      unfold cl_X7_all_L85 at hF
      refine lv_aload_n hx hb dX7_all_85 rfl (lv_at hl 0 rfl) ?_
      obtain ⟨hg, hF⟩ := dx_gd_some hF
      have k27 := of_decide_eq_true hg
      obtain ⟨r26, σ26, h26c, hF⟩ := dx_b2_some hF
      refine cl_ci (va_runV (As := []) S (cm_X7_sort l D dA _ A a0 o0  σ _ _ e0 h26c) (cwV 0 hts (lw_V q613 q615 qs13 q94 q616) rfl rfl rfl ⟨rfl, cd_X7_sort⟩ ⟨Nat.le_of_ble_eq_true rfl, Nat.le_of_ble_eq_true rfl⟩) (cl_preV V [] e0 k27 rfl (by decide)) rfl rfl hl.1 rfl (lv_room (Nat.le_of_ble_eq_true rfl)) dX7_all_86 ⟨by show _ ≤ 592; first | omega | (dsimp only; omega), by show _ ≤ 11835; first | omega | (dsimp only; omega)⟩) V (fun ad _ _ hag hle V => ?_)
      replace e0 := e0.mv hag hle
      refine lv_ldc hx hb hown (hts _ q563) dX7_all_89 ?_
      refine lv_icmp_eq (tgt := 101) hx hb dX7_all_91 (by decide) (fun hc => ?_) (fun hc => ?_)
      · replace hF := (if_pos hc).symm.trans hF
        replace hF := dx_ex_k hF hz85
        refine W.widen (k := 179) (n := 8531) (by first | omega | (dsimp only; omega)) (by first | omega | (dsimp only; omega)) ?_
        refine W.widen (k := 179 + 11 * (12 - 12)) (n := 8531 + 88 * (12 - 12)) (by first | omega | (dsimp only; omega)) (by first | omega | (dsimp only; omega)) ?_
        exact hL101  12 σ26 _ (by omega) _ _ _ hF e0 V (lv_sub hl [0] rfl)
      · replace hF := (if_neg hc).symm.trans hF
        refine lv_aload_n hx hb dX7_all_94 rfl (lv_at hl 0 rfl) ?_
        obtain ⟨hg, hF⟩ := dx_gd_some hF
        have k37 := of_decide_eq_true hg
        obtain ⟨z36, σ36, h36c, hF⟩ := dx_bx_some hF
        refine cx_cv (vx_runV (As := []) S (cm_X7_person l hlt D dA _ A a0 o0  σ26 _ _ e0 h36c) (cwV 0 hts (lw_V q921 q923 qs14 q94 q924) rfl rfl rfl ⟨rfl, cd_X7_person⟩ ⟨Nat.le_of_ble_eq_true rfl, Nat.le_of_ble_eq_true rfl⟩) (cl_preV V [] e0 k37 rfl (by decide)) rfl rfl hl.1 rfl (lv_room (Nat.le_of_ble_eq_true rfl)) dX7_all_95 ⟨by show _ ≤ 592; first | omega | (dsimp only; omega), by show _ ≤ 11835; first | omega | (dsimp only; omega)⟩) V (fun x36 ce q9 ad _ _ hz hag hle hq9 V hce hcv hcl => ?_) (fun _ ad _ _ hz hag hle V => ?_)
        · subst hz
          replace hF := dx_xs_r hF
          replace e0 := e0.mv hag hle
          replace hF := dx_ex_k hF hz85
          obtain ⟨hF1, hF2⟩ := dx_r2 hF
          subst hF1
          subst hF2
          exact cx_out V htab hlocks hq9 hce hcv hcl (by first | omega | (dsimp only; omega)) (by first | omega | (dsimp only; omega))
        · subst hz
          replace hF := dx_xs_l hF
          replace e0 := e0.mv hag hle
          refine lv_goto (tgt := 85) hx hb dX7_all_98 (by decide) ?_
          refine W.widen (k := 14 + 15 * (11 - n)) (n := 424 + 737 * (11 - n)) (by first | omega | (dsimp only; omega)) (by first | omega | (dsimp only; omega)) ?_
          replace hF := Option.some.inj hF
          subst hF
          exact ih85 σ36 _ (by omega) _ _ _ (dx_lk_l hz85) e0 V (lv_sub hl [0] rfl)
  have hJ81 : ∀ (σ : cl_S) (t1 : Bool) (ad : Nat → Nat) (H : Heap) (locs : List Loc) (ls : Array Slot), cl_X7_all_J81 o0 σ t1 = some (z, σ') → cl_at ad σ a0 o0 → cl_at ad σ a0 o0 → cl_V D dA (ad0, cl_n σ0) ad A s.heap σ s H locs → lv_has ls 1 [(0, .ref a0)] → W p l e ({ frames := 8, cells := 592, slots := 11835, locals := 178 }) s m ([.ref a0] : List Value).toArray below meth c H locs 13 416 (vx_MQ below (cx_Qv D dA ad0 A σ0 σ' z) (cx_X D dA ad0 A σ0 σ' z) ([.ref a0] : List Value).toArray s 592 11835 A) (F0 m 81 ls [.int (dx_bI t1), .ref a0]) := by
    intro σ t1 ad H locs ls hF e0 e0 V hl
    unfold cl_X7_all_J81 at hF
    refine lv_iconst (v := 1) hx hb dX7_all_81 (by decide) ?_
    obtain ⟨hg, hF⟩ := dx_gd_some hF
    have k25 := of_decide_eq_true hg
    obtain ⟨z24, σ24, h24c, hF⟩ := dx_bx_some hF
    refine cx_cv (vx_runV (As := [.int (dx_bI t1), .int (1 : Int32)]) S (cm_X7_must l hlt D dA _ A a0 o0 t1 (1 : Int32) σ _ _ e0 h24c) (cwV 2 hts (lw_V q573 q575 qs10 q94 q576) rfl rfl rfl ⟨rfl, cd_X7_must⟩ ⟨Nat.le_of_ble_eq_true rfl, Nat.le_of_ble_eq_true rfl⟩) (cl_preV V [.int (dx_bI t1), .int (1 : Int32)] e0 k25 rfl (by decide)) rfl rfl hl.1 rfl (lv_room (Nat.le_of_ble_eq_true rfl)) dX7_all_82 ⟨Nat.le_of_ble_eq_true rfl, Nat.le_of_ble_eq_true rfl⟩) V (fun x24 ce q9 ad _ _ hz hag hle hq9 V hce hcv hcl => ?_) (fun _ ad _ _ hz hag hle V => ?_)
    · subst hz
      replace hF := dx_xs_r hF
      replace e0 := e0.mv hag hle
      obtain ⟨hF1, hF2⟩ := dx_r2 hF
      subst hF1
      subst hF2
      exact cx_out V htab hlocks hq9 hce hcv hcl (by first | omega | (dsimp only; omega)) (by first | omega | (dsimp only; omega))
    · subst hz
      replace hF := dx_xs_l hF
      replace e0 := e0.mv hag hle
      refine W.widen (k := 14 + 15 * (11 - 11)) (n := 424 + 737 * (11 - 11)) (by first | omega | (dsimp only; omega)) (by first | omega | (dsimp only; omega)) ?_
      exact hL85  11 σ24 _ (by omega) _ _ _ hF e0 V (lv_sub hl [0] rfl)
  refine lv_aload_n hx hb dX7_all_0 rfl (lv_at hl 0 rfl) ?_
  obtain ⟨hg, hF⟩ := dx_gd_some hF
  have k2 := of_decide_eq_true hg
  obtain ⟨σ1, h1c, hF⟩ := dx_b1_some hF
  refine cl_cv (va_runV (As := []) S (cm_X7_next l D dA _ A a0 o0  σ0 _ e0 h1c) (cwV 0 hts (lw_V q555 q557 qs7 q94 q558) rfl rfl rfl ⟨rfl, cd_X7_next⟩ ⟨Nat.le_of_ble_eq_true rfl, Nat.le_of_ble_eq_true rfl⟩) (cl_preV V [] e0 k2 rfl (by decide)) rfl rfl hl.1 rfl (lv_room (Nat.le_of_ble_eq_true rfl)) dX7_all_1 ⟨Nat.le_of_ble_eq_true rfl, Nat.le_of_ble_eq_true rfl⟩) V (fun ad _ _ hag hle V => ?_)
  replace e0 := e0.mv hag hle
  refine lv_aload_n hx hb dX7_all_4 rfl (lv_at hl 0 rfl) ?_
  refine lv_aload_n hx hb dX7_all_5 rfl (lv_at hl 0 rfl) ?_
  refine lv_iconst (v := 1) hx hb dX7_all_6 (by decide) ?_
  refine lv_bipush (v := 119) hx hb dX7_all_7 (by decide) ?_
  obtain ⟨hg, hF⟩ := dx_gd_some hF
  have k4 := of_decide_eq_true hg
  obtain ⟨r3, h3c, hF⟩ := dx_b1_some hF
  refine cl_ci (va_runV (As := [.int (1 : Int32), .int (119 : Int32)]) S (cm_X7_is l D dA _ A a0 o0 (1 : Int32) (119 : Int32) σ1 _ e0 h3c) (cwV 2 hts (lw_V q569 q571 qs9 q94 q572) rfl rfl rfl ⟨rfl, cd_X7_is⟩ ⟨Nat.le_of_ble_eq_true rfl, Nat.le_of_ble_eq_true rfl⟩) (cl_preV V [.int (1 : Int32), .int (119 : Int32)] e0 k4 rfl (by decide)) rfl rfl hl.1 rfl (lv_room (Nat.le_of_ble_eq_true rfl)) dX7_all_9 ⟨Nat.le_of_ble_eq_true rfl, Nat.le_of_ble_eq_true rfl⟩) V (fun ad _ _ hag hle V => ?_)
  replace e0 := e0.mv hag hle
  refine lv_iconst (v := 1) hx hb dX7_all_12 (by decide) ?_
  obtain ⟨z5, σ5, h5c, hF⟩ := dx_bx_some hF
  refine cx_cv (vx_runV (As := [.int (dx_bI r3), .int (1 : Int32)]) S (cm_X7_must l hlt D dA _ A a0 o0 r3 (1 : Int32) σ1 _ _ e0 h5c) (cwV 2 hts (lw_V q573 q575 qs10 q94 q576) rfl rfl rfl ⟨rfl, cd_X7_must⟩ ⟨Nat.le_of_ble_eq_true rfl, Nat.le_of_ble_eq_true rfl⟩) (cl_preV V [.int (dx_bI r3), .int (1 : Int32)] e0 k4 rfl (by decide)) rfl rfl hl.1 rfl (lv_room (Nat.le_of_ble_eq_true rfl)) dX7_all_13 ⟨Nat.le_of_ble_eq_true rfl, Nat.le_of_ble_eq_true rfl⟩) V (fun x5 ce q9 ad _ _ hz hag hle hq9 V hce hcv hcl => ?_) (fun _ ad _ _ hz hag hle V => ?_)
  · subst hz
    replace hF := dx_xs_r hF
    replace e0 := e0.mv hag hle
    obtain ⟨hF1, hF2⟩ := dx_r2 hF
    subst hF1
    subst hF2
    exact cx_out V htab hlocks hq9 hce hcv hcl (by first | omega | (dsimp only; omega)) (by first | omega | (dsimp only; omega))
  · subst hz
    replace hF := dx_xs_l hF
    replace e0 := e0.mv hag hle
    refine lv_aload_n hx hb dX7_all_16 rfl (lv_at hl 0 rfl) ?_
    obtain ⟨hg, hF⟩ := dx_gd_some hF
    have k7 := of_decide_eq_true hg
    obtain ⟨σ6, h6c, hF⟩ := dx_b1_some hF
    refine cl_cv (va_runV (As := []) S (cm_X7_next l D dA _ A a0 o0  σ5 _ e0 h6c) (cwV 0 hts (lw_V q555 q557 qs7 q94 q558) rfl rfl rfl ⟨rfl, cd_X7_next⟩ ⟨Nat.le_of_ble_eq_true rfl, Nat.le_of_ble_eq_true rfl⟩) (cl_preV V [] e0 k7 rfl (by decide)) rfl rfl hl.1 rfl (lv_room (Nat.le_of_ble_eq_true rfl)) dX7_all_17 ⟨Nat.le_of_ble_eq_true rfl, Nat.le_of_ble_eq_true rfl⟩) V (fun ad _ _ hag hle V => ?_)
    replace e0 := e0.mv hag hle
    refine lv_aload_n hx hb dX7_all_20 rfl (lv_at hl 0 rfl) ?_
    obtain ⟨hg, hF⟩ := dx_gd_some hF
    have k8 := of_decide_eq_true hg
    obtain ⟨hg, hF⟩ := dx_gd_some hF
    refine cl_gr S V e0 k8 rfl (by decide) in_X7 6 (by decide) rfl q534 rfl dX7_all_21 (of_decide_eq_true hg) (fun bb9 ee9 => ?_)
    refine lv_aload_n hx hb dX7_all_24 rfl (lv_at hl 0 rfl) ?_
    refine lv_iconst (v := 1) hx hb dX7_all_25 (by decide) ?_
    refine lv_bipush (v := 9) hx hb dX7_all_26 (by decide) ?_
    obtain ⟨z10, σ10, h10c, hF⟩ := dx_bx_some hF
    refine cx_ci (vx_runV (As := [.int (1 : Int32), .int (9 : Int32)]) S (cm_X7_figure l hlt D dA _ A a0 o0 (1 : Int32) (9 : Int32) σ6 _ _ e0 h10c) (cwV 2 hts (lw_V q605 q607 qs11 q94 q608) rfl rfl rfl ⟨rfl, cd_X7_figure⟩ ⟨Nat.le_of_ble_eq_true rfl, Nat.le_of_ble_eq_true rfl⟩) (cl_preV V [.int (1 : Int32), .int (9 : Int32)] e0 k8 rfl (by decide)) rfl rfl hl.1 rfl (lv_room (Nat.le_of_ble_eq_true rfl)) dX7_all_28 ⟨Nat.le_of_ble_eq_true rfl, Nat.le_of_ble_eq_true rfl⟩) V (fun x10 ce q9 ad _ _ hz hag hle hq9 V hce hcv hcl => ?_) (fun r10 ad _ _ hz hag hle V => ?_)
    · subst hz
      replace hF := dx_xs_r hF
      replace ee9 := ee9.mv hag hle
      replace e0 := e0.mv hag hle
      obtain ⟨hF1, hF2⟩ := dx_r2 hF
      subst hF1
      subst hF2
      exact cx_out V htab hlocks hq9 hce hcv hcl (by first | omega | (dsimp only; omega)) (by first | omega | (dsimp only; omega))
    · subst hz
      replace hF := dx_xs_l hF
      replace ee9 := ee9.mv hag hle
      replace e0 := e0.mv hag hle
      obtain ⟨hg, hF⟩ := dx_gd_some hF
      have k11 := of_decide_eq_true hg
      refine cl_pi S V ee9 k11 rfl (by decide) in_X2 tyX2 tyX2_ok nmX2 2 (by decide) rfl q159 rfl rfl rfl dX7_all_31 (fun _ _ V => ?_)
      refine lv_aload_n hx hb dX7_all_34 rfl (lv_at hl 0 rfl) ?_
      refine lv_bipush (v := 44) hx hb dX7_all_35 (by decide) ?_
      obtain ⟨hg, hF⟩ := dx_gd_some hF
      have k13 := of_decide_eq_true hg
      obtain ⟨z12, σ12, h12c, hF⟩ := dx_bx_some hF
      refine cx_cv (vx_runV (As := [.int (44 : Int32)]) S (cm_X7_sign l hlt D dA _ A a0 o0 (44 : Int32) (cl_wi σ10 (cl_r σ6 o0 6) 2 r10) _ _ e0 h12c) (cwV 1 hts (lw_V q609 q611 qs12 q94 q612) rfl rfl rfl ⟨rfl, cd_X7_sign⟩ ⟨Nat.le_of_ble_eq_true rfl, Nat.le_of_ble_eq_true rfl⟩) (cl_preV V [.int (44 : Int32)] e0 k13 rfl (by decide)) rfl rfl hl.1 rfl (lv_room (Nat.le_of_ble_eq_true rfl)) dX7_all_37 ⟨Nat.le_of_ble_eq_true rfl, Nat.le_of_ble_eq_true rfl⟩) V (fun x12 ce q9 ad _ _ hz hag hle hq9 V hce hcv hcl => ?_) (fun _ ad _ _ hz hag hle V => ?_)
      · subst hz
        replace hF := dx_xs_r hF
        replace e0 := e0.mv hag hle
        obtain ⟨hF1, hF2⟩ := dx_r2 hF
        subst hF1
        subst hF2
        exact cx_out V htab hlocks hq9 hce hcv hcl (by first | omega | (dsimp only; omega)) (by first | omega | (dsimp only; omega))
      · subst hz
        replace hF := dx_xs_l hF
        replace e0 := e0.mv hag hle
        refine lv_aload_n hx hb dX7_all_40 rfl (lv_at hl 0 rfl) ?_
        obtain ⟨hg, hF⟩ := dx_gd_some hF
        have k14 := of_decide_eq_true hg
        obtain ⟨hg, hF⟩ := dx_gd_some hF
        refine cl_gr S V e0 k14 rfl (by decide) in_X7 6 (by decide) rfl q534 rfl dX7_all_41 (of_decide_eq_true hg) (fun bb15 ee15 => ?_)
        refine lv_aload_n hx hb dX7_all_44 rfl (lv_at hl 0 rfl) ?_
        refine lv_aload_n hx hb dX7_all_45 rfl (lv_at hl 0 rfl) ?_
        obtain ⟨hg, hF⟩ := dx_gd_some hF
        refine cl_gr S V e0 k14 rfl (by decide) in_X7 6 (by decide) rfl q534 rfl dX7_all_46 (of_decide_eq_true hg) (fun bb16 ee16 => ?_)
        obtain ⟨hg, hF⟩ := dx_gd_some hF
        have k17 := of_decide_eq_true hg
        refine cl_gi S V ee16 k17 rfl (by decide) in_X2 2 (by decide) rfl q159 rfl dX7_all_49 ?_
        refine lv_bipush (v := 20) hx hb dX7_all_52 (by decide) ?_
        obtain ⟨z18, σ18, h18c, hF⟩ := dx_bx_some hF
        refine cx_ci (vx_runV (As := [.int (cl_i σ12 (cl_r σ12 o0 6) 2), .int (20 : Int32)]) S (cm_X7_figure l hlt D dA _ A a0 o0 (cl_i σ12 (cl_r σ12 o0 6) 2) (20 : Int32) σ12 _ _ e0 h18c) (cwV 2 hts (lw_V q605 q607 qs11 q94 q608) rfl rfl rfl ⟨rfl, cd_X7_figure⟩ ⟨Nat.le_of_ble_eq_true rfl, Nat.le_of_ble_eq_true rfl⟩) (cl_preV V [.int (cl_i σ12 (cl_r σ12 o0 6) 2), .int (20 : Int32)] e0 k14 rfl (by decide)) rfl rfl hl.1 rfl (lv_room (Nat.le_of_ble_eq_true rfl)) dX7_all_54 ⟨Nat.le_of_ble_eq_true rfl, Nat.le_of_ble_eq_true rfl⟩) V (fun x18 ce q9 ad _ _ hz hag hle hq9 V hce hcv hcl => ?_) (fun r18 ad _ _ hz hag hle V => ?_)
        · subst hz
          replace hF := dx_xs_r hF
          replace ee15 := ee15.mv hag hle
          replace e0 := e0.mv hag hle
          obtain ⟨hF1, hF2⟩ := dx_r2 hF
          subst hF1
          subst hF2
          exact cx_out V htab hlocks hq9 hce hcv hcl (by first | omega | (dsimp only; omega)) (by first | omega | (dsimp only; omega))
        · subst hz
          replace hF := dx_xs_l hF
          replace ee15 := ee15.mv hag hle
          replace e0 := e0.mv hag hle
          obtain ⟨hg, hF⟩ := dx_gd_some hF
          have k19 := of_decide_eq_true hg
          refine cl_pi S V ee15 k19 rfl (by decide) in_X2 tyX2 tyX2_ok nmX2 3 (by decide) rfl q162 rfl rfl rfl dX7_all_57 (fun _ _ V => ?_)
          refine lv_aload_n hx hb dX7_all_60 rfl (lv_at hl 0 rfl) ?_
          refine lv_bipush (v := 59) hx hb dX7_all_61 (by decide) ?_
          obtain ⟨hg, hF⟩ := dx_gd_some hF
          have k21 := of_decide_eq_true hg
          obtain ⟨z20, σ20, h20c, hF⟩ := dx_bx_some hF
          refine cx_cv (vx_runV (As := [.int (59 : Int32)]) S (cm_X7_sign l hlt D dA _ A a0 o0 (59 : Int32) (cl_wi σ18 (cl_r σ12 o0 6) 3 r18) _ _ e0 h20c) (cwV 1 hts (lw_V q609 q611 qs12 q94 q612) rfl rfl rfl ⟨rfl, cd_X7_sign⟩ ⟨Nat.le_of_ble_eq_true rfl, Nat.le_of_ble_eq_true rfl⟩) (cl_preV V [.int (59 : Int32)] e0 k21 rfl (by decide)) rfl rfl hl.1 rfl (lv_room (Nat.le_of_ble_eq_true rfl)) dX7_all_63 ⟨Nat.le_of_ble_eq_true rfl, Nat.le_of_ble_eq_true rfl⟩) V (fun x20 ce q9 ad _ _ hz hag hle hq9 V hce hcv hcl => ?_) (fun _ ad _ _ hz hag hle V => ?_)
          · subst hz
            replace hF := dx_xs_r hF
            replace e0 := e0.mv hag hle
            obtain ⟨hF1, hF2⟩ := dx_r2 hF
            subst hF1
            subst hF2
            exact cx_out V htab hlocks hq9 hce hcv hcl (by first | omega | (dsimp only; omega)) (by first | omega | (dsimp only; omega))
          · subst hz
            replace hF := dx_xs_l hF
            replace e0 := e0.mv hag hle
            refine lv_aload_n hx hb dX7_all_66 rfl (lv_at hl 0 rfl) ?_
            refine lv_aload_n hx hb dX7_all_67 rfl (lv_at hl 0 rfl) ?_
            obtain ⟨hg, hF⟩ := dx_gd_some hF
            have k23 := of_decide_eq_true hg
            obtain ⟨r22, σ22, h22c, hF⟩ := dx_b2_some hF
            refine cl_ci (va_runV (As := []) S (cm_X7_sort l D dA _ A a0 o0  σ20 _ _ e0 h22c) (cwV 0 hts (lw_V q613 q615 qs13 q94 q616) rfl rfl rfl ⟨rfl, cd_X7_sort⟩ ⟨Nat.le_of_ble_eq_true rfl, Nat.le_of_ble_eq_true rfl⟩) (cl_preV V [] e0 k23 rfl (by decide)) rfl rfl hl.1 rfl (lv_room (Nat.le_of_ble_eq_true rfl)) dX7_all_68 ⟨Nat.le_of_ble_eq_true rfl, Nat.le_of_ble_eq_true rfl⟩) V (fun ad _ _ hag hle V => ?_)
            replace e0 := e0.mv hag hle
            refine lv_ldc hx hb hown (hts _ q563) dX7_all_71 ?_
            refine lv_icmp_eq (tgt := 80) hx hb dX7_all_73 (by decide) (fun hc => ?_) (fun hc => ?_)
            · replace hF := (if_pos hc).symm.trans hF
              refine lv_iconst (v := 0) hx hb dX7_all_80 (by decide) ?_
              refine W.widen (k := 13) (n := 416) (by first | omega | (dsimp only; omega)) (by first | omega | (dsimp only; omega)) ?_
              exact hJ81 σ22 false _ _ _ _ hF e0 e0 V (lv_sub hl [0] rfl)
            · replace hF := (if_neg hc).symm.trans hF
              refine lv_iconst (v := 1) hx hb dX7_all_76 (by decide) ?_
              refine lv_goto (tgt := 81) hx hb dX7_all_77 (by decide) ?_
              refine W.widen (k := 13) (n := 416) (by first | omega | (dsimp only; omega)) (by first | omega | (dsimp only; omega)) ?_
              exact hJ81 σ22 true _ _ _ _ hF e0 e0 V (lv_sub hl [0] rfl)
theorem cd_X0_net : yX0_net.cls ≠ "java/lang/invoke/MethodHandle" ∧ yX0_net.cls ≠ "java/lang/invoke/VarHandle" ∧ (parseMethodDescriptor yX0_net.desc).map (fun d => d.parameters.length) = some 0 := by decide +kernel
set_option maxHeartbeats 4000000 in
set_option maxRecDepth 100000 in
theorem cm_X0_net (l : Launch) (hlt : l.stackTraces = false) (D : va_G) (dA : Nat → ClassId) (ad0 : Nat → Nat) (A : Nat → Prop) (a0 : Nat) (o0 : Nat)  (σ0 : cl_S) (r : Int32) (σ' : cl_S) (e0 : cl_at ad0 σ0 a0 o0) (hF : cl_X0_net o0 σ0 = some (r, σ')) : cx_Hi l yX0_net cX0_net 5 .int [(16, 20, 28, 166), (16, 20, 52, 0), (28, 45, 52, 0), (52, 54, 52, 0)] ({ frames := 9, cells := 611, slots := 11931, locals := 198 }) D dA ad0 A [.ref a0] σ0 r σ' := by
  refine cx_inH RX0 rfl (by decide) (Nat.le_of_ble_eq_true rfl) ?_
  intro p e s m below meth c ls S hr hlocks hini htab hv hl
  have hx := S.1
  have hb := S.2.1
  have hown := S.2.2.2.1
  have hts := S.2.2.2.2
  obtain ⟨hN, hK, hP, hD, hA, hZ⟩ := hv
  have V : cl_V D dA (ad0, cl_n σ0) ad0 A s.heap σ0 s s.heap [] := ⟨hN, hK, hP, hD, va_S.rf, hA, hZ, fun _ _ => rfl, Nat.le_refl _⟩
  obtain ⟨ad, V, e0⟩ : ∃ ad, cl_V D dA (ad0, cl_n σ0) ad A s.heap σ0 s s.heap [] ∧ cl_at ad σ0 a0 o0 := ⟨ad0, V, e0⟩
  replace hl : lv_has ls 5 [(0, .ref a0)] := hl
  unfold cl_X0_net at hF
  refine cl_new S V rfl (by decide) in_X7 tyX7 tyX7_ok cl_dfX7 q520 q521 q94 (Nat.le_of_ble_eq_true rfl) (Nat.le_of_ble_eq_true rfl) dX0_net_0 (fun bb1 ad _ hag ee1 V => ?_)
  replace e0 := cl_at.nw 7 0 e0 hag
  have k1 : cl_k (cl_nw σ0 7 0) (cl_n σ0 + 1) = 7 := cl_k_nw
  refine lv_dup hx hb dX0_net_3 rfl ?_
  refine lv_aload_n hx hb dX0_net_4 rfl (lv_at hl 0 rfl) ?_
  obtain ⟨hg, hF⟩ := dx_gd_some hF
  have k2 := of_decide_eq_true hg
  obtain ⟨hg, hF⟩ := dx_gd_some hF
  refine cl_gr S V e0 k2 rfl (by decide) in_X0 1 (by decide) rfl q269 rfl dX0_net_5 (of_decide_eq_true hg) (fun bb3 ee3 => ?_)
  refine lv_aload_n hx hb dX0_net_8 rfl (lv_at hl 0 rfl) ?_
  refine cl_gi S V e0 k2 rfl (by decide) in_X0 2 (by decide) rfl q270 rfl dX0_net_9 ?_
  obtain ⟨σ4, h4c, hF⟩ := dx_b1_some hF
  refine cl_cv (va_runI (As := [.ref bb3, .int (cl_i (cl_nw σ0 7 0) o0 2)]) S (cm_X7_init l D dA _ A bb1 bb3 (cl_n σ0 + 1) (cl_r (cl_nw σ0 7 0) o0 1) (cl_i (cl_nw σ0 7 0) o0 2) (cl_nw σ0 7 0) _ ee1 ee3 h4c) (cwI 2 hts (lw_meth q524) rfl rfl rfl (hts _ q94) (hts _ q522) (hts _ q523) rfl cd_X7_init ⟨Nat.le_of_ble_eq_true rfl, Nat.le_of_ble_eq_true rfl⟩) (cl_preS V [.ref bb1, .ref bb3, .int (cl_i (cl_nw σ0 7 0) o0 2)]) rfl rfl hl.1 rfl (lv_room (Nat.le_of_ble_eq_true rfl)) dX0_net_12 ⟨Nat.le_of_ble_eq_true rfl, Nat.le_of_ble_eq_true rfl⟩) V (fun ad _ _ hag hle V => ?_)
  replace ee1 := ee1.mv hag hle
  replace e0 := e0.mv hag hle
  refine lv_astore_n (lv' := [(1, .ref bb1), (0, .ref a0)]) hx hb dX0_net_15 rfl hl (by decide) rfl (fun ls hl => ?_)
  refine lv_aload_n hx hb dX0_net_16 rfl (lv_at hl 0 rfl) ?_
  obtain ⟨hg, hF⟩ := dx_gd_some hF
  have k6 := of_decide_eq_true hg
  obtain ⟨z5, σ5, h5c, hF⟩ := dx_bx_some hF
  refine cx_cv (vx_runV (As := []) S (cm_X7_all l hlt D dA _ A bb1 (cl_n σ0 + 1)  σ4 _ _ ee1 h5c) (cwV 0 hts (lw_V q551 q552 q553 q94 q554) rfl rfl rfl ⟨rfl, cd_X7_all⟩ ⟨Nat.le_of_ble_eq_true rfl, Nat.le_of_ble_eq_true rfl⟩) (cl_preV V [] ee1 k6 rfl (by decide)) rfl rfl hl.1 rfl (lv_room (Nat.le_of_ble_eq_true rfl)) dX0_net_17 ⟨Nat.le_of_ble_eq_true rfl, Nat.le_of_ble_eq_true rfl⟩) V (fun x5 ce q9 ad _ _ hz hag hle hq9 V hce hcv hcl => ?_) (fun _ ad _ _ hz hag hle V => ?_)
  · subst hz
    replace hF := dx_xs_r hF
    replace e0 := e0.mv hag hle
    replace ee1 := ee1.mv hag hle
    by_cases hc : 10 ≤ x5
    · replace hF := (if_pos hc).symm.trans hF
      have eF := hq9 hc
      rw [cx_en_F hc] at hcl
      refine vx_catch (E := "DatedContacts$Fault") (name := "DatedContacts$Fault") hown [] ⟨16, 20, 28, 166⟩ [⟨16, 20, 52, 0⟩, ⟨28, 45, 52, 0⟩, ⟨52, 54, 52, 0⟩] (by rw [htab]; rfl) (fun z h => nomatch h) rfl (by decide) (hts _ q519) (va_Nw.use rfl (V.1.1 _ cn_q579)) hce hcv hcl ?_
      refine lv_astore_n (lv' := [(2, .ref q9), (1, .ref bb1), (0, .ref a0)]) hx hb dX0_net_28 rfl hl (by decide) rfl (fun ls hl => ?_)
      refine lv_aload_n hx hb dX0_net_29 rfl (lv_at hl 2 rfl) ?_
      refine lv_aload_n hx hb dX0_net_30 rfl (lv_at hl 0 rfl) ?_
      obtain ⟨hg, hF⟩ := dx_gd_some hF
      have k7 := of_decide_eq_true hg
      refine cl_gi S V eF k7 rfl (by decide) in_X8 6 (by decide) rfl q596 rfl dX0_net_31 ?_
      obtain ⟨hg, hF⟩ := dx_gd_some hF
      have k8 := of_decide_eq_true hg
      refine cl_pi S V e0 k8 rfl (by decide) in_X0 tyX0 tyX0_ok nmX0 3 (by decide) rfl q271 rfl rfl rfl dX0_net_34 (fun _ _ V => ?_)
      refine lv_ldc hx hb hown (hts _ q981) dX0_net_37 ?_
      refine lv_aload_n hx hb dX0_net_39 rfl (lv_at hl 0 rfl) ?_
      refine cl_gi S V eF k7 rfl (by decide) in_X8 7 (by decide) rfl q598 rfl dX0_net_40 ?_
      refine lv_isub hx hb dX0_net_43 ?_
      refine lv_topi (fun x9 ex9 => ?_)
      replace hF := dx_let_e ex9 hF
      refine lv_istore_n (lv' := [(3, .int x9), (2, .ref q9), (1, .ref bb1), (0, .ref a0)]) hx hb dX0_net_44 rfl hl (by decide) rfl (fun ls hl => ?_)
      refine lv_aload_n hx hb dX0_net_45 rfl (lv_at hl 3 rfl) ?_
      refine lv_iconst (v := 0) hx hb dX0_net_46 (by decide) ?_
      refine cl_pi S V e0 k8 rfl (by decide) in_X0 tyX0 tyX0_ok nmX0 2 (by decide) rfl q270 rfl rfl rfl dX0_net_47 (fun _ _ V => ?_)
      obtain ⟨σ10, eσ10⟩ : ∃ x, x = (cl_wi (cl_wi σ5 o0 3 (cl_i σ5 (x5 - 10) 6)) o0 2 (0 : Int32)) := ⟨_, rfl⟩
      rw [← eσ10] at V
      replace hF := dx_let_e eσ10 hF
      replace e0 : cl_at ad σ10 a0 o0 := by rw [eσ10]; exact e0
      replace ee1 : cl_at ad σ10 bb1 (cl_n σ0 + 1) := by rw [eσ10]; exact ee1
      replace eF : cl_at ad σ10 q9 (x5 - 10) := by rw [eσ10]; exact eF
      replace k7 : cl_k σ10 (x5 - 10) = 8 := by rw [eσ10]; exact k7
      replace k8 : cl_k σ10 o0 = 0 := by rw [eσ10]; exact k8
      refine lv_iload_n hx hb dX0_net_50 rfl (lv_at hl 0 rfl) ?_
      refine W.widen (k := 611) (n := 11931) (by first | omega | (dsimp only; omega)) (by first | omega | (dsimp only; omega)) ?_
      obtain ⟨hF1, hF2⟩ := dx_r2 hF
      subst hF1
      subst hF2
      exact vx_ret (cl_ri S V hr hlocks rfl dX0_net_51)
    replace hF := (if_neg hc).symm.trans hF
    clear hc
    cases hF
  · subst hz
    replace hF := dx_xs_l hF
    replace e0 := e0.mv hag hle
    replace ee1 := ee1.mv hag hle
    refine lv_aload_n hx hb dX0_net_20 rfl (lv_at hl 1 rfl) ?_
    refine lv_iconst (v := 0) hx hb dX0_net_21 (by decide) ?_
    obtain ⟨hg, hF⟩ := dx_gd_some hF
    have k11 := of_decide_eq_true hg
    refine cl_pi S V e0 k11 rfl (by decide) in_X0 tyX0 tyX0_ok nmX0 2 (by decide) rfl q270 rfl rfl rfl dX0_net_22 (fun _ _ V => ?_)
    refine lv_goto (tgt := 62) hx hb dX0_net_25 (by decide) ?_
    refine lv_aload_n hx hb dX0_net_62 rfl (lv_at hl 1 rfl) ?_
    obtain ⟨hg, hF⟩ := dx_gd_some hF
    refine cl_gr S V e0 k11 rfl (by decide) in_X0 4 (by decide) rfl q272 rfl dX0_net_63 (of_decide_eq_true hg) (fun bb12 ee12 => ?_)
    refine lv_aload_n hx hb dX0_net_66 rfl (lv_at hl 0 rfl) ?_
    obtain ⟨hg, hF⟩ := dx_gd_some hF
    have k13 := of_decide_eq_true hg
    obtain ⟨hg, hF⟩ := dx_gd_some hF
    refine cl_gr S V ee1 k13 rfl (by decide) in_X7 6 (by decide) rfl q535 rfl dX0_net_67 (of_decide_eq_true hg) (fun bb14 ee14 => ?_)
    obtain ⟨hg, hF⟩ := dx_gd_some hF
    have k16 := of_decide_eq_true hg
    obtain ⟨r15, σ15, h15c, hF⟩ := dx_b2_some hF
    obtain ⟨hg, hF⟩ := dx_gd_some hF
    refine cl_cr (va_runV (As := []) S (cm_X2_stirred l D dA _ A bb14 (cl_r (cl_wi σ5 o0 2 (0 : Int32)) (cl_n σ0 + 1) 6)  (cl_wi σ5 o0 2 (0 : Int32)) _ _ ee14 h15c) (cwV 0 hts (lw_V q982 q983 q984 q79 q985) rfl rfl rfl ⟨rfl, cd_X2_stirred⟩ ⟨Nat.le_of_ble_eq_true rfl, Nat.le_of_ble_eq_true rfl⟩) (cl_preV V [] ee14 k16 rfl (by decide)) rfl rfl hl.1 rfl (lv_room (Nat.le_of_ble_eq_true rfl)) dX0_net_70 ⟨Nat.le_of_ble_eq_true rfl, Nat.le_of_ble_eq_true rfl⟩) V (of_decide_eq_true hg) (fun bb15 ad _ _ hag hle ee15 V => ?_)
    replace ee12 := ee12.mv hag hle
    replace e0 := e0.mv hag hle
    replace ee1 := ee1.mv hag hle
    obtain ⟨hg, hF⟩ := dx_gd_some hF
    have k18 := of_decide_eq_true hg
    obtain ⟨r17, σ17, h17c, hF⟩ := dx_b2_some hF
    obtain ⟨hg, hF⟩ := dx_gd_some hF
    refine cl_cr (va_runV (As := [.ref bb15]) S (cm_X2_become l D dA _ A bb12 bb15 (cl_r (cl_wi σ5 o0 2 (0 : Int32)) o0 4) r15  σ15 _ _ ee12 ee15 h17c) (cwV 1 hts (lw_V q1046 q1047 q1048 q79 q1049) rfl rfl rfl ⟨rfl, cd_X2_become⟩ ⟨Nat.le_of_ble_eq_true rfl, Nat.le_of_ble_eq_true rfl⟩) (cl_preV V [.ref bb15] ee12 k18 rfl (by decide)) rfl rfl hl.1 rfl (lv_room (Nat.le_of_ble_eq_true rfl)) dX0_net_73 ⟨Nat.le_of_ble_eq_true rfl, Nat.le_of_ble_eq_true rfl⟩) V (of_decide_eq_true hg) (fun bb17 ad _ _ hag hle ee17 V => ?_)
    replace e0 := e0.mv hag hle
    replace ee1 := ee1.mv hag hle
    refine lv_pop hx hb dX0_net_76 rfl ?_
    refine lv_aload_n hx hb dX0_net_77 rfl (lv_at hl 1 rfl) ?_
    refine lv_iconst (v := 0) hx hb dX0_net_78 (by decide) ?_
    obtain ⟨hg, hF⟩ := dx_gd_some hF
    have k19 := of_decide_eq_true hg
    refine cl_pi S V e0 k19 rfl (by decide) in_X0 tyX0 tyX0_ok nmX0 9 (by decide) rfl q277 rfl rfl rfl dX0_net_79 (fun _ _ V => ?_)
    refine lv_aload_n hx hb dX0_net_82 rfl (lv_at hl 1 rfl) ?_
    obtain ⟨hg, hF⟩ := dx_gd_some hF
    refine cl_gr S V e0 k19 rfl (by decide) in_X0 4 (by decide) rfl q272 rfl dX0_net_83 (of_decide_eq_true hg) (fun bb20 ee20 => ?_)
    obtain ⟨hg, hF⟩ := dx_gd_some hF
    have k21 := of_decide_eq_true hg
    refine cl_gi S V ee20 k21 rfl (by decide) in_X2 0 (by decide) rfl q152 rfl dX0_net_86 ?_
    refine W.widen (k := 611) (n := 11931) (by first | omega | (dsimp only; omega)) (by first | omega | (dsimp only; omega)) ?_
    obtain ⟨hF1, hF2⟩ := dx_r2 hF
    subst hF1
    subst hF2
    exact vx_ret (cl_ri S V hr hlocks rfl dX0_net_89)
theorem cd_J17_stringSize : yJ17_stringSize.cls ≠ "java/lang/invoke/MethodHandle" ∧ yJ17_stringSize.cls ≠ "java/lang/invoke/VarHandle" ∧ (parseMethodDescriptor yJ17_stringSize.desc).map (fun d => d.parameters.length) = some 1 := by decide +kernel
set_option maxHeartbeats 4000000 in
set_option maxRecDepth 100000 in
theorem cm_J17_stringSize (l : Launch) (p0 : Int32) (r : Int32) (hF : cl_J17_stringSize p0 = some r) : dx_Pi l yJ17_stringSize cJ17_stringSize 4 .int ({ frames := 0, cells := 0, slots := 0, locals := 0 }) [.int p0] r := by
  refine dx_in RJ17 rfl (by decide) (Nat.le_of_ble_eq_true rfl) ?_
  intro p e s m below meth c ls S hr hlocks hv hl
  have hx := S.1
  have hb := S.2.1
  have hown := S.2.2.2.1
  have hts := S.2.2.2.2
  replace hl : lv_has ls 4 [(0, .int p0)] := hl
  unfold cl_J17_stringSize at hF
  have hL16 : ∀ (v0 : Int32) (v1 : Bool) (n : Nat) (v2 : Int32) (v3 : Int32) (ls : Array Slot), dx_lp (fun x => cl_J17_stringSize_L16 v0 v1 x.1 x.2) n (v2, v3) = some r → lv_has ls 4 [(0, .int v0), (1, .int (dx_bI v1)), (2, .int v2), (3, .int v3)] → W p l e ({ frames := 0, cells := 0, slots := 0, locals := 0 }) s m ([.int p0] : List Value).toArray below meth c s.heap [] 0 0 (MQ below (vp_Si (fun r2 => r2 = r)) ([.int p0] : List Value).toArray s 0 0 (fun _ => False)) (F0 m 16 ls []) := by
    intro v0 v1 n
    induction n with
    | zero =>
      intro v2 v3 ls hF hl
      exact (dx_lp_0 hF).elim
    | succ n ih16 =>
      intro v2 v3 ls hF hl
      obtain ⟨y16, hF, hz16⟩ := dx_lp_s hF
      replace hF : cl_J17_stringSize_L16 v0 v1 v2 v3 = some y16 := hF
      unfold cl_J17_stringSize_L16 at hF
      refine lv_iload_n hx hb dJ17_stringSize_16 rfl (lv_at hl 3 rfl) ?_
      refine lv_bipush (v := 10) hx hb dJ17_stringSize_17 (by decide) ?_
      refine lv_icmp_ge (tgt := 42) hx hb dJ17_stringSize_19 (by decide) (fun hc => ?_) (fun hc => ?_)
      · replace hF := (if_pos hc).symm.trans hF
        replace hF := dx_ex_k hF hz16
        refine lv_bipush (v := 10) hx hb dJ17_stringSize_42 (by decide) ?_
        refine lv_iload_n hx hb dJ17_stringSize_44 rfl (lv_at hl 1 rfl) ?_
        refine lv_iadd hx hb dJ17_stringSize_45 ?_
        replace hF := Option.some.inj hF
        subst hF
        exact dx_rPi S hr hlocks rfl dJ17_stringSize_46
      · replace hF := (if_neg hc).symm.trans hF
        refine lv_iload_n hx hb dJ17_stringSize_22 rfl (lv_at hl 0 rfl) ?_
        refine lv_iload_n hx hb dJ17_stringSize_23 rfl (lv_at hl 2 rfl) ?_
        refine lv_icmp_le (tgt := 31) hx hb dJ17_stringSize_24 (by decide) (fun hc => ?_) (fun hc => ?_)
        · replace hF := (if_pos hc).symm.trans hF
          refine lv_bipush (v := 10) hx hb dJ17_stringSize_31 (by decide) ?_
          refine lv_iload_n hx hb dJ17_stringSize_33 rfl (lv_at hl 2 rfl) ?_
          refine lv_imul hx hb dJ17_stringSize_34 ?_
          refine lv_istore_n (lv' := [(2, .int ((10 : Int32) * v2)), (0, .int v0), (1, .int (dx_bI v1)), (3, .int v3)]) hx hb dJ17_stringSize_35 rfl hl (by decide) rfl (fun ls hl => ?_)
          refine lv_iinc (v := (v3 + (1 : Int32))) (lv' := [(3, .int (v3 + (1 : Int32))), (2, .int ((10 : Int32) * v2)), (0, .int v0), (1, .int (dx_bI v1))]) hx hb dJ17_stringSize_36 hl (k := 3) rfl rfl (by decide) rfl (fun ls hl => ?_)
          refine lv_goto (tgt := 16) hx hb dJ17_stringSize_39 (by decide) ?_
          replace hF := Option.some.inj hF
          subst hF
          exact ih16 ((10 : Int32) * v2) (v3 + (1 : Int32)) _ (dx_lk_l hz16) (lv_sub hl [2, 3, 1, 0] rfl)
        · replace hF := (if_neg hc).symm.trans hF
          replace hF := dx_ex_k hF hz16
          refine lv_iload_n hx hb dJ17_stringSize_27 rfl (lv_at hl 3 rfl) ?_
          refine lv_iload_n hx hb dJ17_stringSize_28 rfl (lv_at hl 1 rfl) ?_
          refine lv_iadd hx hb dJ17_stringSize_29 ?_
          replace hF := Option.some.inj hF
          subst hF
          exact dx_rPi S hr hlocks rfl dJ17_stringSize_30
  refine lv_iconst (v := 1) hx hb dJ17_stringSize_0 (by decide) ?_
  refine lv_istore_n (lv' := [(1, .int (1 : Int32)), (0, .int p0)]) hx hb dJ17_stringSize_1 rfl hl (by decide) rfl (fun ls hl => ?_)
  refine lv_iload_n hx hb dJ17_stringSize_2 rfl (lv_at hl 1 rfl) ?_
  refine lv_if_lt (tgt := 11) hx hb dJ17_stringSize_3 (by decide) (fun hc => ?_) (fun hc => ?_)
  · replace hF := (if_pos hc).symm.trans hF
    refine lv_bipush (v := (-10)) hx hb dJ17_stringSize_11 (by decide) ?_
    refine lv_istore_n (lv' := [(2, .int (-10 : Int32)), (1, .int (1 : Int32)), (0, .int p0)]) hx hb dJ17_stringSize_13 rfl hl (by decide) rfl (fun ls hl => ?_)
    refine lv_iconst (v := 1) hx hb dJ17_stringSize_14 (by decide) ?_
    refine lv_istore_n (lv' := [(3, .int (1 : Int32)), (2, .int (-10 : Int32)), (1, .int (1 : Int32)), (0, .int p0)]) hx hb dJ17_stringSize_15 rfl hl (by decide) rfl (fun ls hl => ?_)
    exact hL16 p0 true dx_fu (-10 : Int32) (1 : Int32) _ hF (lv_sub hl [3, 2, 1, 0] rfl)
  · replace hF := (if_neg hc).symm.trans hF
    refine lv_iconst (v := 0) hx hb dJ17_stringSize_6 (by decide) ?_
    refine lv_istore_n (lv' := [(1, .int (0 : Int32)), (0, .int p0)]) hx hb dJ17_stringSize_7 rfl hl (by decide) rfl (fun ls hl => ?_)
    refine lv_iload_n hx hb dJ17_stringSize_8 rfl (lv_at hl 1 rfl) ?_
    refine lv_ineg hx hb dJ17_stringSize_9 ?_
    refine lv_istore_n (lv' := [(0, .int (-p0)), (1, .int (0 : Int32))]) hx hb dJ17_stringSize_10 rfl hl (by decide) rfl (fun ls hl => ?_)
    refine lv_bipush (v := (-10)) hx hb dJ17_stringSize_11 (by decide) ?_
    refine lv_istore_n (lv' := [(2, .int (-10 : Int32)), (0, .int (-p0)), (1, .int (0 : Int32))]) hx hb dJ17_stringSize_13 rfl hl (by decide) rfl (fun ls hl => ?_)
    refine lv_iconst (v := 1) hx hb dJ17_stringSize_14 (by decide) ?_
    refine lv_istore_n (lv' := [(3, .int (1 : Int32)), (2, .int (-10 : Int32)), (0, .int (-p0)), (1, .int (0 : Int32))]) hx hb dJ17_stringSize_15 rfl hl (by decide) rfl (fun ls hl => ?_)
    exact hL16 (-p0) false dx_fu (-10 : Int32) (1 : Int32) _ hF (lv_sub hl [2, 3, 1, 0] rfl)
theorem cd_J17_getChars : yJ17_getChars.cls ≠ "java/lang/invoke/MethodHandle" ∧ yJ17_getChars.cls ≠ "java/lang/invoke/VarHandle" ∧ (parseMethodDescriptor yJ17_getChars.desc).map (fun d => d.parameters.length) = some 3 := by decide +kernel
set_option maxHeartbeats 4000000 in
set_option maxRecDepth 100000 in
theorem cm_J17_getChars (l : Launch) (D : va_G) (dA : Nat → ClassId) (ad0 : Nat → Nat) (A : Nat → Prop) (a2 : Nat) (o2 : Nat) (p0 : Int32) (p1 : Int32) (σ0 : cl_S) (r : Int32) (σ' : cl_S) (e2 : cl_at ad0 σ0 a2 o2) (hF : cl_J17_getChars o2 σ0 p0 p1 = some (r, σ')) : cl_Ci l yJ17_getChars cJ17_getChars 7 .int ({ frames := 0, cells := 0, slots := 0, locals := 0 }) D dA ad0 A [.int p0, .int p1, .ref a2] σ0 r σ' := by
  refine cl_in RJ17 rfl (by decide) (Nat.le_of_ble_eq_true rfl) ?_
  intro p e s m below meth c ls S hr hlocks hini hv hl
  have hx := S.1
  have hb := S.2.1
  have hown := S.2.2.2.1
  have hts := S.2.2.2.2
  obtain ⟨hN, hK, hP, hD, hA, hZ⟩ := hv
  have V : cl_V D dA (ad0, cl_n σ0) ad0 A s.heap σ0 s s.heap [] := ⟨hN, hK, hP, hD, va_S.rf, hA, hZ, fun _ _ => rfl, Nat.le_refl _⟩
  obtain ⟨ad, V, e2⟩ : ∃ ad, cl_V D dA (ad0, cl_n σ0) ad A s.heap σ0 s s.heap [] ∧ cl_at ad σ0 a2 o2 := ⟨ad0, V, e2⟩
  replace hl : lv_has ls 7 [(0, .int p0), (1, .int p1), (2, .ref a2)] := hl
  unfold cl_J17_getChars at hF
  have hJ104 : ∀ (σ : cl_S) (v5 : Int32) (v6 : Bool) (ad : Nat → Nat) (H : Heap) (locs : List Loc) (ls : Array Slot), cl_J17_getChars_J104 o2 σ v5 v6 = some (r, σ') → cl_at ad σ a2 o2 → cl_V D dA (ad0, cl_n σ0) ad A s.heap σ s H locs → lv_has ls 7 [(2, .ref a2), (5, .int v5), (6, .int (dx_bI v6))] → W p l e ({ frames := 0, cells := 0, slots := 0, locals := 0 }) s m ([.int p0, .int p1, .ref a2] : List Value).toArray below meth c H locs 0 0 (MQ below (cl_Qi D dA ad0 A σ0 σ' r) ([.int p0, .int p1, .ref a2] : List Value).toArray s 0 0 A) (F0 m 104 ls []) := by
    intro σ v5 v6 ad H locs ls hF e2 V hl
    unfold cl_J17_getChars_J104 at hF
    refine lv_iload hx hb dJ17_getChars_104 (lv_at hl 2 rfl) ?_
    refine lv_if_eq (tgt := 118) hx hb dJ17_getChars_106 (by decide) (fun hc => ?_) (fun hc => ?_)
    · replace hF := dx_ib_f (dx_bI_0 hc) hF
      refine lv_iload hx hb dJ17_getChars_118 (lv_at hl 1 rfl) ?_
      obtain ⟨hF1, hF2⟩ := dx_r2 hF
      subst hF1
      subst hF2
      exact cl_ri S V hr hlocks rfl dJ17_getChars_120
    · replace hF := dx_ib_t (dx_bI_n hc) hF
      refine lv_aload_n hx hb dJ17_getChars_109 rfl (lv_at hl 0 rfl) ?_
      refine lv_iinc (v := (v5 + (-1 : Int32))) (lv' := [(5, .int (v5 + (-1 : Int32))), (2, .ref a2), (6, .int (dx_bI v6))]) hx hb dJ17_getChars_110 hl (k := 1) rfl rfl (by decide) rfl (fun ls hl => ?_)
      refine lv_iload hx hb dJ17_getChars_113 (lv_at hl 0 rfl) ?_
      refine lv_bipush (v := 45) hx hb dJ17_getChars_115 (by decide) ?_
      obtain ⟨hg, hF⟩ := dx_gd_some hF
      have k5 := of_decide_eq_true hg
      obtain ⟨hg, hF⟩ := dx_gd_some hF
      refine cl_stb S V e2 k5 (dx_inb_in hg) dJ17_getChars_117 (fun _ _ V => ?_)
      obtain ⟨σ6, eσ6⟩ : ∃ x, x = (cl_wi σ o2 (v5 + (-1 : Int32)).toNatClampNeg (45 : Int32).toInt8.toInt32) := ⟨_, rfl⟩
      rw [← eσ6] at V
      replace hF := dx_let_e eσ6 hF
      replace e2 : cl_at ad σ6 a2 o2 := by rw [eσ6]; exact e2
      replace k5 : cl_k σ6 o2 = 21 := by rw [eσ6]; exact k5
      refine lv_iload hx hb dJ17_getChars_118 (lv_at hl 0 rfl) ?_
      obtain ⟨hF1, hF2⟩ := dx_r2 hF
      subst hF1
      subst hF2
      exact cl_ri S V hr hlocks rfl dJ17_getChars_120
  have hL22 : ∀ (v6 : Bool) (n : Nat) (v0 : Int32) (v5 : Int32) (σ : cl_S) (ad : Nat → Nat) (H : Heap) (locs : List Loc) (ls : Array Slot), dx_lp (fun x => cl_J17_getChars_L22 o2 x.2.2 v6 x.1 x.2.1) n (v0, v5, σ) = some (r, σ') → cl_at ad σ a2 o2 → cl_V D dA (ad0, cl_n σ0) ad A s.heap σ s H locs → lv_has ls 7 [(0, .int v0), (2, .ref a2), (5, .int v5), (6, .int (dx_bI v6))] → W p l e ({ frames := 0, cells := 0, slots := 0, locals := 0 }) s m ([.int p0, .int p1, .ref a2] : List Value).toArray below meth c H locs 0 0 (MQ below (cl_Qi D dA ad0 A σ0 σ' r) ([.int p0, .int p1, .ref a2] : List Value).toArray s 0 0 A) (F0 m 22 ls []) := by
    intro v6 n
    induction n with
    | zero =>
      intro v0 v5 σ ad H locs ls hF e2 V hl
      exact (dx_lp_0 hF).elim
    | succ n ih22 =>
      intro v0 v5 σ ad H locs ls hF e2 V hl
      obtain ⟨y22, hF, hz22⟩ := dx_lp_s hF
      replace hF : cl_J17_getChars_L22 o2 σ v6 v0 v5 = some y22 := hF
      unfold cl_J17_getChars_L22 at hF
      refine lv_iload_n hx hb dJ17_getChars_22 rfl (lv_at hl 0 rfl) ?_
      refine lv_bipush (v := (-100)) hx hb dJ17_getChars_23 (by decide) ?_
      refine lv_icmp_gt (tgt := 72) hx hb dJ17_getChars_25 (by decide) (fun hc => ?_) (fun hc => ?_)
      · replace hF := (if_pos hc).symm.trans hF
        replace hF := dx_ex_k hF hz22
        refine lv_aload_n hx hb dJ17_getChars_72 rfl (lv_at hl 1 rfl) ?_
        refine lv_iinc (v := (v5 + (-1 : Int32))) (lv' := [(5, .int (v5 + (-1 : Int32))), (0, .int v0), (2, .ref a2), (6, .int (dx_bI v6))]) hx hb dJ17_getChars_73 hl (k := 2) rfl rfl (by decide) rfl (fun ls hl => ?_)
        refine lv_iload hx hb dJ17_getChars_76 (lv_at hl 0 rfl) ?_
        refine va_gets hx hb V.1.x.2.2.1.2.1 V.2.2.2.2.1 hown (hts _ q1256) (fun _ h => h) dJ17_getChars_78 ?_
        have ee1 := cl_cat (i := 17) V (by decide) (by decide)
        refine lv_iload_n hx hb dJ17_getChars_81 rfl (lv_at hl 1 rfl) ?_
        refine lv_ineg hx hb dJ17_getChars_82 ?_
        obtain ⟨hg, hF⟩ := dx_gd_some hF
        have k2 := of_decide_eq_true hg
        obtain ⟨hg, hF⟩ := dx_gd_some hF
        refine cl_ldbS S V ee1 k2 (dx_inb_in hg) dJ17_getChars_83 ?_
        obtain ⟨hg, hF⟩ := dx_gd_some hF
        have k3 := of_decide_eq_true hg
        obtain ⟨hg, hF⟩ := dx_gd_some hF
        refine cl_stb S V e2 k3 (dx_inb_in hg) dJ17_getChars_84 (fun _ _ V => ?_)
        obtain ⟨σ4, eσ4⟩ : ∃ x, x = (cl_wi σ o2 (v5 + (-1 : Int32)).toNatClampNeg (cl_i σ 17 (-v0).toNatClampNeg).toInt8.toInt32) := ⟨_, rfl⟩
        rw [← eσ4] at V
        replace hF := dx_let_e eσ4 hF
        replace e2 : cl_at ad σ4 a2 o2 := by rw [eσ4]; exact e2
        replace k2 : cl_k σ4 17 = 21 ∨ cl_k σ4 17 = 23 := by rw [eσ4]; exact k2
        replace k3 : cl_k σ4 o2 = 21 := by rw [eσ4]; exact k3
        refine lv_iload_n hx hb dJ17_getChars_85 rfl (lv_at hl 1 rfl) ?_
        refine lv_bipush (v := (-9)) hx hb dJ17_getChars_86 (by decide) ?_
        refine lv_icmp_ge (tgt := 104) hx hb dJ17_getChars_88 (by decide) (fun hc => ?_) (fun hc => ?_)
        · replace hF := (if_pos hc).symm.trans hF
          exact hJ104 σ4 (v5 + (-1 : Int32)) v6 _ _ _ _ hF e2 V (lv_sub hl [2, 0, 3] rfl)
        · replace hF := (if_neg hc).symm.trans hF
          refine lv_aload_n hx hb dJ17_getChars_91 rfl (lv_at hl 2 rfl) ?_
          refine lv_iinc (v := ((v5 + (-1 : Int32)) + (-1 : Int32))) (lv' := [(5, .int ((v5 + (-1 : Int32)) + (-1 : Int32))), (0, .int v0), (2, .ref a2), (6, .int (dx_bI v6))]) hx hb dJ17_getChars_92 hl (k := 0) rfl rfl (by decide) rfl (fun ls hl => ?_)
          refine lv_iload hx hb dJ17_getChars_95 (lv_at hl 0 rfl) ?_
          refine va_gets hx hb V.1.x.2.2.1.2.2.1 V.2.2.2.2.1 hown (hts _ q1258) (fun _ h => h) dJ17_getChars_97 ?_
          have ee7 := cl_cat (i := 18) V (by decide) (by decide)
          refine lv_iload_n hx hb dJ17_getChars_100 rfl (lv_at hl 1 rfl) ?_
          refine lv_ineg hx hb dJ17_getChars_101 ?_
          obtain ⟨hg, hF⟩ := dx_gd_some hF
          have k8 := of_decide_eq_true hg
          obtain ⟨hg, hF⟩ := dx_gd_some hF
          refine cl_ldbS S V ee7 k8 (dx_inb_in hg) dJ17_getChars_102 ?_
          obtain ⟨hg, hF⟩ := dx_gd_some hF
          refine cl_stb S V e2 k3 (dx_inb_in hg) dJ17_getChars_103 (fun _ _ V => ?_)
          obtain ⟨σ9, eσ9⟩ : ∃ x, x = (cl_wi σ4 o2 ((v5 + (-1 : Int32)) + (-1 : Int32)).toNatClampNeg (cl_i σ4 18 (-v0).toNatClampNeg).toInt8.toInt32) := ⟨_, rfl⟩
          rw [← eσ9] at V
          replace hF := dx_let_e eσ9 hF
          replace e2 : cl_at ad σ9 a2 o2 := by rw [eσ9]; exact e2
          replace k2 : cl_k σ9 17 = 21 ∨ cl_k σ9 17 = 23 := by rw [eσ9]; exact k2
          replace k3 : cl_k σ9 o2 = 21 := by rw [eσ9]; exact k3
          replace k8 : cl_k σ9 18 = 21 ∨ cl_k σ9 18 = 23 := by rw [eσ9]; exact k8
          exact hJ104 σ9 ((v5 + (-1 : Int32)) + (-1 : Int32)) v6 _ _ _ _ hF e2 V (lv_sub hl [2, 0, 3] rfl)
      · replace hF := (if_neg hc).symm.trans hF
        refine lv_iload_n hx hb dJ17_getChars_28 rfl (lv_at hl 0 rfl) ?_
        refine lv_bipush (v := 100) hx hb dJ17_getChars_29 (by decide) ?_
        refine lv_idiv hx hb dJ17_getChars_31 (by decide) ?_
        refine lv_istore_n (lv' := [(3, .int (v0 / (100 : Int32))), (0, .int v0), (2, .ref a2), (5, .int v5), (6, .int (dx_bI v6))]) hx hb dJ17_getChars_32 rfl hl (by decide) rfl (fun ls hl => ?_)
        refine lv_iload_n hx hb dJ17_getChars_33 rfl (lv_at hl 0 rfl) ?_
        refine lv_bipush (v := 100) hx hb dJ17_getChars_34 (by decide) ?_
        refine lv_imul hx hb dJ17_getChars_36 ?_
        refine lv_iload_n hx hb dJ17_getChars_37 rfl (lv_at hl 1 rfl) ?_
        refine lv_isub hx hb dJ17_getChars_38 ?_
        refine lv_istore (lv' := [(4, .int (((v0 / (100 : Int32)) * (100 : Int32)) - v0)), (3, .int (v0 / (100 : Int32))), (0, .int v0), (2, .ref a2), (5, .int v5), (6, .int (dx_bI v6))]) hx hb dJ17_getChars_39 hl (by decide) rfl (fun ls hl => ?_)
        refine lv_iload_n hx hb dJ17_getChars_41 rfl (lv_at hl 1 rfl) ?_
        refine lv_istore_n (lv' := [(0, .int (v0 / (100 : Int32))), (4, .int (((v0 / (100 : Int32)) * (100 : Int32)) - v0)), (3, .int (v0 / (100 : Int32))), (2, .ref a2), (5, .int v5), (6, .int (dx_bI v6))]) hx hb dJ17_getChars_42 rfl hl (by decide) rfl (fun ls hl => ?_)
        refine lv_aload_n hx hb dJ17_getChars_43 rfl (lv_at hl 3 rfl) ?_
        refine lv_iinc (v := (v5 + (-1 : Int32))) (lv' := [(5, .int (v5 + (-1 : Int32))), (0, .int (v0 / (100 : Int32))), (4, .int (((v0 / (100 : Int32)) * (100 : Int32)) - v0)), (3, .int (v0 / (100 : Int32))), (2, .ref a2), (6, .int (dx_bI v6))]) hx hb dJ17_getChars_44 hl (k := 4) rfl rfl (by decide) rfl (fun ls hl => ?_)
        refine lv_iload hx hb dJ17_getChars_47 (lv_at hl 0 rfl) ?_
        refine va_gets hx hb V.1.x.2.2.1.2.1 V.2.2.2.2.1 hown (hts _ q1256) (fun _ h => h) dJ17_getChars_49 ?_
        have ee10 := cl_cat (i := 17) V (by decide) (by decide)
        refine lv_iload hx hb dJ17_getChars_52 (lv_at hl 2 rfl) ?_
        obtain ⟨hg, hF⟩ := dx_gd_some hF
        have k11 := of_decide_eq_true hg
        obtain ⟨hg, hF⟩ := dx_gd_some hF
        refine cl_ldbS S V ee10 k11 (dx_inb_in hg) dJ17_getChars_54 ?_
        obtain ⟨hg, hF⟩ := dx_gd_some hF
        have k12 := of_decide_eq_true hg
        obtain ⟨hg, hF⟩ := dx_gd_some hF
        refine cl_stb S V e2 k12 (dx_inb_in hg) dJ17_getChars_55 (fun _ _ V => ?_)
        obtain ⟨σ13, eσ13⟩ : ∃ x, x = (cl_wi σ o2 (v5 + (-1 : Int32)).toNatClampNeg (cl_i σ 17 (((v0 / (100 : Int32)) * (100 : Int32)) - v0).toNatClampNeg).toInt8.toInt32) := ⟨_, rfl⟩
        rw [← eσ13] at V
        replace hF := dx_let_e eσ13 hF
        replace e2 : cl_at ad σ13 a2 o2 := by rw [eσ13]; exact e2
        replace k11 : cl_k σ13 17 = 21 ∨ cl_k σ13 17 = 23 := by rw [eσ13]; exact k11
        replace k12 : cl_k σ13 o2 = 21 := by rw [eσ13]; exact k12
        refine lv_aload_n hx hb dJ17_getChars_56 rfl (lv_at hl 4 rfl) ?_
        refine lv_iinc (v := ((v5 + (-1 : Int32)) + (-1 : Int32))) (lv' := [(5, .int ((v5 + (-1 : Int32)) + (-1 : Int32))), (0, .int (v0 / (100 : Int32))), (4, .int (((v0 / (100 : Int32)) * (100 : Int32)) - v0)), (3, .int (v0 / (100 : Int32))), (2, .ref a2), (6, .int (dx_bI v6))]) hx hb dJ17_getChars_57 hl (k := 0) rfl rfl (by decide) rfl (fun ls hl => ?_)
        refine lv_iload hx hb dJ17_getChars_60 (lv_at hl 0 rfl) ?_
        refine va_gets hx hb V.1.x.2.2.1.2.2.1 V.2.2.2.2.1 hown (hts _ q1258) (fun _ h => h) dJ17_getChars_62 ?_
        have ee14 := cl_cat (i := 18) V (by decide) (by decide)
        refine lv_iload hx hb dJ17_getChars_65 (lv_at hl 2 rfl) ?_
        obtain ⟨hg, hF⟩ := dx_gd_some hF
        have k15 := of_decide_eq_true hg
        obtain ⟨hg, hF⟩ := dx_gd_some hF
        refine cl_ldbS S V ee14 k15 (dx_inb_in hg) dJ17_getChars_67 ?_
        obtain ⟨hg, hF⟩ := dx_gd_some hF
        refine cl_stb S V e2 k12 (dx_inb_in hg) dJ17_getChars_68 (fun _ _ V => ?_)
        obtain ⟨σ16, eσ16⟩ : ∃ x, x = (cl_wi σ13 o2 ((v5 + (-1 : Int32)) + (-1 : Int32)).toNatClampNeg (cl_i σ13 18 (((v0 / (100 : Int32)) * (100 : Int32)) - v0).toNatClampNeg).toInt8.toInt32) := ⟨_, rfl⟩
        rw [← eσ16] at V
        replace hF := dx_let_e eσ16 hF
        replace e2 : cl_at ad σ16 a2 o2 := by rw [eσ16]; exact e2
        replace k11 : cl_k σ16 17 = 21 ∨ cl_k σ16 17 = 23 := by rw [eσ16]; exact k11
        replace k12 : cl_k σ16 o2 = 21 := by rw [eσ16]; exact k12
        replace k15 : cl_k σ16 18 = 21 ∨ cl_k σ16 18 = 23 := by rw [eσ16]; exact k15
        refine lv_goto (tgt := 22) hx hb dJ17_getChars_69 (by decide) ?_
        replace hF := Option.some.inj hF
        subst hF
        exact ih22 (v0 / (100 : Int32)) ((v5 + (-1 : Int32)) + (-1 : Int32)) σ16 _ _ _ _ (dx_lk_l hz22) e2 V (lv_sub hl [1, 4, 0, 5] rfl)
  have hJ12 : ∀ (σ : cl_S) (v0 : Int32) (v5 : Int32) (t0 : Bool) (ad : Nat → Nat) (H : Heap) (locs : List Loc) (ls : Array Slot), cl_J17_getChars_J12 o2 σ v0 v5 t0 = some (r, σ') → cl_at ad σ a2 o2 → cl_V D dA (ad0, cl_n σ0) ad A s.heap σ s H locs → lv_has ls 7 [(0, .int v0), (2, .ref a2), (5, .int v5)] → W p l e ({ frames := 0, cells := 0, slots := 0, locals := 0 }) s m ([.int p0, .int p1, .ref a2] : List Value).toArray below meth c H locs 0 0 (MQ below (cl_Qi D dA ad0 A σ0 σ' r) ([.int p0, .int p1, .ref a2] : List Value).toArray s 0 0 A) (F0 m 12 ls [.int (dx_bI t0)]) := by
    intro σ v0 v5 t0 ad H locs ls hF e2 V hl
    unfold cl_J17_getChars_J12 at hF
    refine lv_istore (lv' := [(6, .int (dx_bI t0)), (0, .int v0), (2, .ref a2), (5, .int v5)]) hx hb dJ17_getChars_12 hl (by decide) rfl (fun ls hl => ?_)
    refine lv_iload hx hb dJ17_getChars_14 (lv_at hl 0 rfl) ?_
    refine lv_if_ne (tgt := 22) hx hb dJ17_getChars_16 (by decide) (fun hc => ?_) (fun hc => ?_)
    · replace hF := dx_ib_t (dx_bI_n hc) hF
      exact hL22 t0 dx_fu v0 v5 σ _ _ _ _ hF e2 V (lv_sub hl [1, 2, 3, 0] rfl)
    · replace hF := dx_ib_f (dx_bI_0 hc) hF
      refine lv_iload_n hx hb dJ17_getChars_19 rfl (lv_at hl 1 rfl) ?_
      refine lv_ineg hx hb dJ17_getChars_20 ?_
      refine lv_istore_n (lv' := [(0, .int (-v0)), (6, .int (dx_bI t0)), (2, .ref a2), (5, .int v5)]) hx hb dJ17_getChars_21 rfl hl (by decide) rfl (fun ls hl => ?_)
      exact hL22 t0 dx_fu (-v0) v5 σ _ _ _ _ hF e2 V (lv_sub hl [0, 2, 3, 1] rfl)
  refine lv_iload_n hx hb dJ17_getChars_0 rfl (lv_at hl 1 rfl) ?_
  refine lv_istore (lv' := [(5, .int p1), (0, .int p0), (1, .int p1), (2, .ref a2)]) hx hb dJ17_getChars_1 hl (by decide) rfl (fun ls hl => ?_)
  refine lv_iload_n hx hb dJ17_getChars_3 rfl (lv_at hl 1 rfl) ?_
  refine lv_if_ge (tgt := 11) hx hb dJ17_getChars_4 (by decide) (fun hc => ?_) (fun hc => ?_)
  · replace hF := (if_pos hc).symm.trans hF
    refine lv_iconst (v := 0) hx hb dJ17_getChars_11 (by decide) ?_
    exact hJ12 σ0 p0 p1 false _ _ _ _ hF e2 V (lv_sub hl [1, 3, 0] rfl)
  · replace hF := (if_neg hc).symm.trans hF
    refine lv_iconst (v := 1) hx hb dJ17_getChars_7 (by decide) ?_
    refine lv_goto (tgt := 12) hx hb dJ17_getChars_8 (by decide) ?_
    exact hJ12 σ0 p0 p1 true _ _ _ _ hF e2 V (lv_sub hl [1, 3, 0] rfl)
