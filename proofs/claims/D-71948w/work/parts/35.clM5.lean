/-! the class side read back and walked (printed by gen/clmain.py) -/
theorem cd_X0_accounts : yX0_accounts.cls ≠ "java/lang/invoke/MethodHandle" ∧ yX0_accounts.cls ≠ "java/lang/invoke/VarHandle" ∧ (parseMethodDescriptor yX0_accounts.desc).map (fun d => d.parameters.length) = some 1 := by decide +kernel
set_option maxHeartbeats 4000000 in
set_option maxRecDepth 100000 in
theorem cm_X0_accounts (l : Launch) (D : va_G) (dA : Nat → ClassId) (ad0 : Nat → Nat) (A : Nat → Prop) (a0 : Nat) (o0 : Nat) (p0 : Int32) (σ0 : cl_S) (r : Int32) (σ' : cl_S) (e0 : cl_at ad0 σ0 a0 o0) (hF : cl_X0_accounts o0 σ0 p0 = some (r, σ')) : cl_Ci l yX0_accounts cX0_accounts 2 .int ({ frames := 7, cells := 0, slots := 0, locals := 163 }) D dA ad0 A [.ref a0, .int p0] σ0 r σ' := by
  refine cl_in RX0 rfl (by decide) (Nat.le_of_ble_eq_true rfl) ?_
  intro p e s m below meth c ls S hr hlocks hini hv hl
  have hx := S.1
  have hb := S.2.1
  have hown := S.2.2.2.1
  have hts := S.2.2.2.2
  obtain ⟨hN, hK, hP, hD, hA, hZ⟩ := hv
  have V : cl_V D dA (ad0, cl_n σ0) ad0 A s.heap σ0 s s.heap [] := ⟨hN, hK, hP, hD, va_S.rf, hA, hZ, fun _ _ => rfl, Nat.le_refl _⟩
  obtain ⟨ad, V, e0⟩ : ∃ ad, cl_V D dA (ad0, cl_n σ0) ad A s.heap σ0 s s.heap [] ∧ cl_at ad σ0 a0 o0 := ⟨ad0, V, e0⟩
  replace hl : lv_has ls 2 [(0, .ref a0), (1, .int p0)] := hl
  unfold cl_X0_accounts at hF
  refine lv_aload_n hx hb dX0_accounts_0 rfl (lv_at hl 0 rfl) ?_
  refine lv_iload_n hx hb dX0_accounts_1 rfl (lv_at hl 1 rfl) ?_
  obtain ⟨hg, hF⟩ := dx_gd_some hF
  have k2 := of_decide_eq_true hg
  obtain ⟨r1, h1c, hF⟩ := dx_b1_some hF
  refine cl_ci (va_runV (As := [.int p0]) S (cm_X0_isPerson l D dA _ A a0 o0 p0 σ0 _ e0 h1c) (cwV 1 hts (lw_V q1059 q1061 qs17 q77 q1062) rfl rfl rfl ⟨rfl, cd_X0_isPerson⟩ ⟨Nat.le_of_ble_eq_true rfl, Nat.le_of_ble_eq_true rfl⟩) (cl_preV V [.int p0] e0 k2 rfl (by decide)) rfl rfl hl.1 rfl (lv_room (Nat.le_of_ble_eq_true rfl)) dX0_accounts_2 ⟨Nat.le_of_ble_eq_true rfl, Nat.le_of_ble_eq_true rfl⟩) V (fun ad _ _ hag hle V => ?_)
  replace e0 := e0.mv hag hle
  refine lv_if_eq (tgt := 16) hx hb dX0_accounts_5 (by decide) (fun hc => ?_) (fun hc => ?_)
  · replace hF := dx_ib_f (dx_bI_0 hc) hF
    refine lv_ldc hx hb hown (hts _ q406) dX0_accounts_16 ?_
    obtain ⟨hF1, hF2⟩ := dx_r2 hF
    subst hF1
    subst hF2
    exact cl_ri S V hr hlocks rfl dX0_accounts_18
  · replace hF := dx_ib_t (dx_bI_n hc) hF
    refine lv_aload_n hx hb dX0_accounts_8 rfl (lv_at hl 0 rfl) ?_
    refine lv_iload_n hx hb dX0_accounts_9 rfl (lv_at hl 1 rfl) ?_
    obtain ⟨r3, σ3, h3c, hF⟩ := dx_b2_some hF
    refine cl_ci (va_runV (As := [.int p0]) S (cm_X0_accountsOf l D dA _ A a0 o0 p0 σ0 _ _ e0 h3c) (cwV 1 hts (lw_V q1329 q1331 qs25 q77 q1332) rfl rfl rfl ⟨rfl, cd_X0_accountsOf⟩ ⟨Nat.le_of_ble_eq_true rfl, Nat.le_of_ble_eq_true rfl⟩) (cl_preV V [.int p0] e0 k2 rfl (by decide)) rfl rfl hl.1 rfl (lv_room (Nat.le_of_ble_eq_true rfl)) dX0_accounts_10 ⟨Nat.le_of_ble_eq_true rfl, Nat.le_of_ble_eq_true rfl⟩) V (fun ad _ _ hag hle V => ?_)
    replace e0 := e0.mv hag hle
    refine lv_goto (tgt := 18) hx hb dX0_accounts_13 (by decide) ?_
    obtain ⟨hF1, hF2⟩ := dx_r2 hF
    subst hF1
    subst hF2
    exact cl_ri S V hr hlocks rfl dX0_accounts_18
theorem cd_X0_sources : yX0_sources.cls ≠ "java/lang/invoke/MethodHandle" ∧ yX0_sources.cls ≠ "java/lang/invoke/VarHandle" ∧ (parseMethodDescriptor yX0_sources.desc).map (fun d => d.parameters.length) = some 0 := by decide +kernel
set_option maxHeartbeats 4000000 in
set_option maxRecDepth 100000 in
theorem cm_X0_sources (l : Launch) (D : va_G) (dA : Nat → ClassId) (ad0 : Nat → Nat) (A : Nat → Prop) (a0 : Nat) (o0 : Nat)  (σ0 : cl_S) (r : Int32) (σ' : cl_S) (e0 : cl_at ad0 σ0 a0 o0) (hF : cl_X0_sources o0 σ0 = some (r, σ')) : cl_Ci l yX0_sources cX0_sources 3 .int ({ frames := 7, cells := 0, slots := 0, locals := 163 }) D dA ad0 A [.ref a0] σ0 r σ' := by
  refine cl_in RX0 rfl (by decide) (Nat.le_of_ble_eq_true rfl) ?_
  intro p e s m below meth c ls S hr hlocks hini hv hl
  have hx := S.1
  have hb := S.2.1
  have hown := S.2.2.2.1
  have hts := S.2.2.2.2
  obtain ⟨hN, hK, hP, hD, hA, hZ⟩ := hv
  have V : cl_V D dA (ad0, cl_n σ0) ad0 A s.heap σ0 s s.heap [] := ⟨hN, hK, hP, hD, va_S.rf, hA, hZ, fun _ _ => rfl, Nat.le_refl _⟩
  obtain ⟨ad, V, e0⟩ : ∃ ad, cl_V D dA (ad0, cl_n σ0) ad A s.heap σ0 s s.heap [] ∧ cl_at ad σ0 a0 o0 := ⟨ad0, V, e0⟩
  replace hl : lv_has ls 3 [(0, .ref a0)] := hl
  unfold cl_X0_sources at hF
  have hL14 : ∀  (n : Nat) (v1 : Int32) (v2 : Int32) (σ : cl_S) (ad : Nat → Nat) (H : Heap) (locs : List Loc) (ls : Array Slot), dx_lp (fun x => cl_X0_sources_L14 o0 x.2.2 x.1 x.2.1) n (v1, v2, σ) = some (r, σ') → cl_at ad σ a0 o0 → cl_V D dA (ad0, cl_n σ0) ad A s.heap σ s H locs → lv_has ls 3 [(0, .ref a0), (1, .int v1), (2, .int v2)] → W p l e ({ frames := 7, cells := 0, slots := 0, locals := 163 }) s m ([.ref a0] : List Value).toArray below meth c H locs 0 0 (MQ below (cl_Qi D dA ad0 A σ0 σ' r) ([.ref a0] : List Value).toArray s 0 0 A) (F0 m 14 ls []) := by
    intro n
    induction n with
    | zero =>
      intro v1 v2 σ ad H locs ls hF e0 V hl
      exact (dx_lp_0 hF).elim
    | succ n ih14 =>
      intro v1 v2 σ ad H locs ls hF e0 V hl
      obtain ⟨y14, hF, hz14⟩ := dx_lp_s hF
      replace hF : cl_X0_sources_L14 o0 σ v1 v2 = some y14 := hF
      unfold cl_X0_sources_L14 at hF
      refine lv_iload_n hx hb dX0_sources_14 rfl (lv_at hl 2 rfl) ?_
      refine lv_aload_n hx hb dX0_sources_15 rfl (lv_at hl 0 rfl) ?_
      obtain ⟨hg, hF⟩ := dx_gd_some hF
      have k3 := of_decide_eq_true hg
      obtain ⟨hg, hF⟩ := dx_gd_some hF
      refine cl_gr S V e0 k3 rfl (by decide) in_X0 4 (by decide) rfl q272 rfl dX0_sources_16 (of_decide_eq_true hg) (fun bb4 ee4 => ?_)
      obtain ⟨hg, hF⟩ := dx_gd_some hF
      have k5 := of_decide_eq_true hg
      refine cl_gi S V ee4 k5 rfl (by decide) in_X2 0 (by decide) rfl q152 rfl dX0_sources_19 ?_
      refine lv_icmp_ge (tgt := 49) hx hb dX0_sources_22 (by decide) (fun hc => ?_) (fun hc => ?_)
      · replace hF := (if_pos hc).symm.trans hF
        replace hF := dx_ex_k hF hz14
        refine lv_iload_n hx hb dX0_sources_49 rfl (lv_at hl 1 rfl) ?_
        obtain ⟨hF1, hF2⟩ := dx_r2 hF
        subst hF1
        subst hF2
        exact cl_ri S V hr hlocks rfl dX0_sources_50
      · replace hF := (if_neg hc).symm.trans hF
        refine lv_iload_n hx hb dX0_sources_25 rfl (lv_at hl 1 rfl) ?_
        refine lv_aload_n hx hb dX0_sources_26 rfl (lv_at hl 0 rfl) ?_
        refine lv_iload_n hx hb dX0_sources_27 rfl (lv_at hl 2 rfl) ?_
        obtain ⟨r6, σ6, h6c, hF⟩ := dx_b2_some hF
        refine cl_ci (va_runV (As := [.int v2]) S (cm_X0_accountsOf l D dA _ A a0 o0 v2 σ _ _ e0 h6c) (cwV 1 hts (lw_V q1329 q1331 qs25 q77 q1332) rfl rfl rfl ⟨rfl, cd_X0_accountsOf⟩ ⟨Nat.le_of_ble_eq_true rfl, Nat.le_of_ble_eq_true rfl⟩) (cl_preV V [.int v2] e0 k3 rfl (by decide)) rfl rfl hl.1 rfl (lv_room (Nat.le_of_ble_eq_true rfl)) dX0_sources_28 ⟨Nat.le_of_ble_eq_true rfl, Nat.le_of_ble_eq_true rfl⟩) V (fun ad _ _ hag hle V => ?_)
        replace e0 := e0.mv hag hle
        refine lv_if_ne (tgt := 38) hx hb dX0_sources_31 (by decide) (fun hc => ?_) (fun hc => ?_)
        · replace hF := (if_neg hc).symm.trans hF
          refine lv_iconst (v := 1) hx hb dX0_sources_38 (by decide) ?_
          refine lv_iload_n hx hb dX0_sources_39 rfl (lv_at hl 2 rfl) ?_
          refine lv_ishl hx hb dX0_sources_40 ?_
          refine lv_ior hx hb dX0_sources_41 ?_
          refine lv_istore_n (lv' := [(1, .int (v1 ||| ((1 : Int32) <<< (v2 &&& 31)))), (0, .ref a0), (2, .int v2)]) hx hb dX0_sources_42 rfl hl (by decide) rfl (fun ls hl => ?_)
          refine lv_iinc (v := (v2 + (1 : Int32))) (lv' := [(2, .int (v2 + (1 : Int32))), (1, .int (v1 ||| ((1 : Int32) <<< (v2 &&& 31)))), (0, .ref a0)]) hx hb dX0_sources_43 hl (k := 2) rfl rfl (by decide) rfl (fun ls hl => ?_)
          refine lv_goto (tgt := 14) hx hb dX0_sources_46 (by decide) ?_
          replace hF := Option.some.inj hF
          subst hF
          exact ih14 (v1 ||| ((1 : Int32) <<< (v2 &&& 31))) (v2 + (1 : Int32)) σ6 _ _ _ _ (dx_lk_l hz14) e0 V (lv_sub hl [2, 1, 0] rfl)
        · replace hF := (if_pos hc).symm.trans hF
          refine lv_iconst (v := 0) hx hb dX0_sources_34 (by decide) ?_
          refine lv_goto (tgt := 41) hx hb dX0_sources_35 (by decide) ?_
          refine lv_ior hx hb dX0_sources_41 ?_
          refine lv_istore_n (lv' := [(1, .int (v1 ||| (0 : Int32))), (0, .ref a0), (2, .int v2)]) hx hb dX0_sources_42 rfl hl (by decide) rfl (fun ls hl => ?_)
          refine lv_iinc (v := (v2 + (1 : Int32))) (lv' := [(2, .int (v2 + (1 : Int32))), (1, .int (v1 ||| (0 : Int32))), (0, .ref a0)]) hx hb dX0_sources_43 hl (k := 2) rfl rfl (by decide) rfl (fun ls hl => ?_)
          refine lv_goto (tgt := 14) hx hb dX0_sources_46 (by decide) ?_
          replace hF := Option.some.inj hF
          subst hF
          exact ih14 (v1 ||| (0 : Int32)) (v2 + (1 : Int32)) σ6 _ _ _ _ (dx_lk_l hz14) e0 V (lv_sub hl [2, 1, 0] rfl)
  refine lv_aload_n hx hb dX0_sources_0 rfl (lv_at hl 0 rfl) ?_
  obtain ⟨hg, hF⟩ := dx_gd_some hF
  have k2 := of_decide_eq_true hg
  obtain ⟨r1, h1c, hF⟩ := dx_b1_some hF
  refine cl_ci (va_runV (As := []) S (cm_X0_isThere l D dA _ A a0 o0  σ0 _ e0 h1c) (cwV 0 hts (lw_V q1092 q1094 qs20 q77 q1095) rfl rfl rfl ⟨rfl, cd_X0_isThere⟩ ⟨Nat.le_of_ble_eq_true rfl, Nat.le_of_ble_eq_true rfl⟩) (cl_preV V [] e0 k2 rfl (by decide)) rfl rfl hl.1 rfl (lv_room (Nat.le_of_ble_eq_true rfl)) dX0_sources_1 ⟨Nat.le_of_ble_eq_true rfl, Nat.le_of_ble_eq_true rfl⟩) V (fun ad _ _ hag hle V => ?_)
  replace e0 := e0.mv hag hle
  refine lv_if_ne (tgt := 10) hx hb dX0_sources_4 (by decide) (fun hc => ?_) (fun hc => ?_)
  · replace hF := dx_ib_t (dx_bI_n hc) hF
    refine lv_iconst (v := 0) hx hb dX0_sources_10 (by decide) ?_
    refine lv_istore_n (lv' := [(1, .int (0 : Int32)), (0, .ref a0)]) hx hb dX0_sources_11 rfl hl (by decide) rfl (fun ls hl => ?_)
    refine lv_iconst (v := 0) hx hb dX0_sources_12 (by decide) ?_
    refine lv_istore_n (lv' := [(2, .int (0 : Int32)), (1, .int (0 : Int32)), (0, .ref a0)]) hx hb dX0_sources_13 rfl hl (by decide) rfl (fun ls hl => ?_)
    exact hL14  dx_fu (0 : Int32) (0 : Int32) σ0 _ _ _ _ hF e0 V (lv_sub hl [2, 1, 0] rfl)
  · replace hF := dx_ib_f (dx_bI_0 hc) hF
    refine lv_ldc hx hb hown (hts _ q1083) dX0_sources_7 ?_
    obtain ⟨hF1, hF2⟩ := dx_r2 hF
    subst hF1
    subst hF2
    exact cl_ri S V hr hlocks rfl dX0_sources_9
theorem cd_X2_all : yX2_all.cls ≠ "java/lang/invoke/MethodHandle" ∧ yX2_all.cls ≠ "java/lang/invoke/VarHandle" ∧ (parseMethodDescriptor yX2_all.desc).map (fun d => d.parameters.length) = some 0 := by decide +kernel
set_option maxHeartbeats 4000000 in
set_option maxRecDepth 100000 in
theorem cm_X2_all (l : Launch) (D : va_G) (dA : Nat → ClassId) (ad0 : Nat → Nat) (A : Nat → Prop) (a0 : Nat) (o0 : Nat)  (σ0 : cl_S) (r : Int32) (e0 : cl_at ad0 σ0 a0 o0) (hF : cl_X2_all o0 σ0 = some r) : cl_Ci l yX2_all cX2_all 1 .int ({ frames := 0, cells := 0, slots := 0, locals := 0 }) D dA ad0 A [.ref a0] σ0 r σ0 := by
  refine cl_in RX2 rfl (by decide) (Nat.le_of_ble_eq_true rfl) ?_
  intro p e s m below meth c ls S hr hlocks hini hv hl
  have hx := S.1
  have hb := S.2.1
  have hown := S.2.2.2.1
  have hts := S.2.2.2.2
  obtain ⟨hN, hK, hP, hD, hA, hZ⟩ := hv
  have V : cl_V D dA (ad0, cl_n σ0) ad0 A s.heap σ0 s s.heap [] := ⟨hN, hK, hP, hD, va_S.rf, hA, hZ, fun _ _ => rfl, Nat.le_refl _⟩
  obtain ⟨ad, V, e0⟩ : ∃ ad, cl_V D dA (ad0, cl_n σ0) ad A s.heap σ0 s s.heap [] ∧ cl_at ad σ0 a0 o0 := ⟨ad0, V, e0⟩
  replace hl : lv_has ls 1 [(0, .ref a0)] := hl
  unfold cl_X2_all at hF
  refine lv_iconst (v := 1) hx hb dX2_all_0 (by decide) ?_
  refine lv_aload_n hx hb dX2_all_1 rfl (lv_at hl 0 rfl) ?_
  obtain ⟨hg, hF⟩ := dx_gd_some hF
  have k1 := of_decide_eq_true hg
  refine cl_gi S V e0 k1 rfl (by decide) in_X2 1 (by decide) rfl q153 rfl dX2_all_2 ?_
  refine lv_ishl hx hb dX2_all_5 ?_
  refine lv_iconst (v := 1) hx hb dX2_all_6 (by decide) ?_
  refine lv_isub hx hb dX2_all_7 ?_
  replace hF := Option.some.inj hF
  subst hF
  exact cl_ri S V hr hlocks rfl dX2_all_8
theorem cd_J17_bitCount : yJ17_bitCount.cls ≠ "java/lang/invoke/MethodHandle" ∧ yJ17_bitCount.cls ≠ "java/lang/invoke/VarHandle" ∧ (parseMethodDescriptor yJ17_bitCount.desc).map (fun d => d.parameters.length) = some 1 := by decide +kernel
set_option maxHeartbeats 4000000 in
set_option maxRecDepth 100000 in
theorem cm_J17_bitCount (l : Launch) (p0 : Int32) (r : Int32) (hF : cl_J17_bitCount p0 = some r) : dx_Pi l yJ17_bitCount cJ17_bitCount 1 .int ({ frames := 0, cells := 0, slots := 0, locals := 0 }) [.int p0] r := by
  refine dx_in RJ17 rfl (by decide) (Nat.le_of_ble_eq_true rfl) ?_
  intro p e s m below meth c ls S hr hlocks hv hl
  have hx := S.1
  have hb := S.2.1
  have hown := S.2.2.2.1
  have hts := S.2.2.2.2
  replace hl : lv_has ls 1 [(0, .int p0)] := hl
  unfold cl_J17_bitCount at hF
  refine lv_iload_n hx hb dJ17_bitCount_0 rfl (lv_at hl 0 rfl) ?_
  refine lv_iload_n hx hb dJ17_bitCount_1 rfl (lv_at hl 0 rfl) ?_
  refine lv_iconst (v := 1) hx hb dJ17_bitCount_2 (by decide) ?_
  refine lv_iushr hx hb dJ17_bitCount_3 rfl ?_
  refine lv_ldcw hx hb hown (hts _ q1353) dJ17_bitCount_4 ?_
  refine lv_iand hx hb dJ17_bitCount_7 ?_
  refine lv_isub hx hb dJ17_bitCount_8 ?_
  refine lv_topi (fun x1 ex1 => ?_)
  replace hF := dx_let_e ex1 hF
  refine lv_istore_n (lv' := [(0, .int x1)]) hx hb dJ17_bitCount_9 rfl hl (by decide) rfl (fun ls hl => ?_)
  refine lv_iload_n hx hb dJ17_bitCount_10 rfl (lv_at hl 0 rfl) ?_
  refine lv_ldcw hx hb hown (hts _ q1354) dJ17_bitCount_11 ?_
  refine lv_iand hx hb dJ17_bitCount_14 ?_
  refine lv_iload_n hx hb dJ17_bitCount_15 rfl (lv_at hl 0 rfl) ?_
  refine lv_iconst (v := 2) hx hb dJ17_bitCount_16 (by decide) ?_
  refine lv_iushr hx hb dJ17_bitCount_17 rfl ?_
  refine lv_ldcw hx hb hown (hts _ q1354) dJ17_bitCount_18 ?_
  refine lv_iand hx hb dJ17_bitCount_21 ?_
  refine lv_iadd hx hb dJ17_bitCount_22 ?_
  refine lv_topi (fun x2 ex2 => ?_)
  replace hF := dx_let_e ex2 hF
  refine lv_istore_n (lv' := [(0, .int x2)]) hx hb dJ17_bitCount_23 rfl hl (by decide) rfl (fun ls hl => ?_)
  refine lv_iload_n hx hb dJ17_bitCount_24 rfl (lv_at hl 0 rfl) ?_
  refine lv_iload_n hx hb dJ17_bitCount_25 rfl (lv_at hl 0 rfl) ?_
  refine lv_iconst (v := 4) hx hb dJ17_bitCount_26 (by decide) ?_
  refine lv_iushr hx hb dJ17_bitCount_27 rfl ?_
  refine lv_iadd hx hb dJ17_bitCount_28 ?_
  refine lv_ldcw hx hb hown (hts _ q1355) dJ17_bitCount_29 ?_
  refine lv_iand hx hb dJ17_bitCount_32 ?_
  refine lv_topi (fun x3 ex3 => ?_)
  replace hF := dx_let_e ex3 hF
  refine lv_istore_n (lv' := [(0, .int x3)]) hx hb dJ17_bitCount_33 rfl hl (by decide) rfl (fun ls hl => ?_)
  refine lv_iload_n hx hb dJ17_bitCount_34 rfl (lv_at hl 0 rfl) ?_
  refine lv_iload_n hx hb dJ17_bitCount_35 rfl (lv_at hl 0 rfl) ?_
  refine lv_bipush (v := 8) hx hb dJ17_bitCount_36 (by decide) ?_
  refine lv_iushr hx hb dJ17_bitCount_38 rfl ?_
  refine lv_iadd hx hb dJ17_bitCount_39 ?_
  refine lv_topi (fun x4 ex4 => ?_)
  replace hF := dx_let_e ex4 hF
  refine lv_istore_n (lv' := [(0, .int x4)]) hx hb dJ17_bitCount_40 rfl hl (by decide) rfl (fun ls hl => ?_)
  refine lv_iload_n hx hb dJ17_bitCount_41 rfl (lv_at hl 0 rfl) ?_
  refine lv_iload_n hx hb dJ17_bitCount_42 rfl (lv_at hl 0 rfl) ?_
  refine lv_bipush (v := 16) hx hb dJ17_bitCount_43 (by decide) ?_
  refine lv_iushr hx hb dJ17_bitCount_45 rfl ?_
  refine lv_iadd hx hb dJ17_bitCount_46 ?_
  refine lv_topi (fun x5 ex5 => ?_)
  replace hF := dx_let_e ex5 hF
  refine lv_istore_n (lv' := [(0, .int x5)]) hx hb dJ17_bitCount_47 rfl hl (by decide) rfl (fun ls hl => ?_)
  refine lv_iload_n hx hb dJ17_bitCount_48 rfl (lv_at hl 0 rfl) ?_
  refine lv_bipush (v := 63) hx hb dJ17_bitCount_49 (by decide) ?_
  refine lv_iand hx hb dJ17_bitCount_51 ?_
  replace hF := Option.some.inj hF
  subst hF
  exact dx_rPi S hr hlocks rfl dJ17_bitCount_52
theorem cd_X0_cut : yX0_cut.cls ≠ "java/lang/invoke/MethodHandle" ∧ yX0_cut.cls ≠ "java/lang/invoke/VarHandle" ∧ (parseMethodDescriptor yX0_cut.desc).map (fun d => d.parameters.length) = some 3 := by decide +kernel
set_option maxHeartbeats 4000000 in
set_option maxRecDepth 100000 in
theorem cm_X0_cut (l : Launch) (D : va_G) (dA : Nat → ClassId) (ad0 : Nat → Nat) (A : Nat → Prop) (a0 : Nat) (o0 : Nat) (p0 : Int32) (p1 : Int32) (p2 : Int32) (σ0 : cl_S) (r : Int32) (σ' : cl_S) (e0 : cl_at ad0 σ0 a0 o0) (hF : cl_X0_cut o0 σ0 p0 p1 p2 = some (r, σ')) : cl_Ci l yX0_cut cX0_cut 6 .int ({ frames := 6, cells := 0, slots := 0, locals := 140 }) D dA ad0 A [.ref a0, .int p0, .int p1, .int p2] σ0 r σ' := by
  refine cl_in RX0 rfl (by decide) (Nat.le_of_ble_eq_true rfl) ?_
  intro p e s m below meth c ls S hr hlocks hini hv hl
  have hx := S.1
  have hb := S.2.1
  have hown := S.2.2.2.1
  have hts := S.2.2.2.2
  obtain ⟨hN, hK, hP, hD, hA, hZ⟩ := hv
  have V : cl_V D dA (ad0, cl_n σ0) ad0 A s.heap σ0 s s.heap [] := ⟨hN, hK, hP, hD, va_S.rf, hA, hZ, fun _ _ => rfl, Nat.le_refl _⟩
  obtain ⟨ad, V, e0⟩ : ∃ ad, cl_V D dA (ad0, cl_n σ0) ad A s.heap σ0 s s.heap [] ∧ cl_at ad σ0 a0 o0 := ⟨ad0, V, e0⟩
  replace hl : lv_has ls 6 [(0, .ref a0), (1, .int p0), (2, .int p1), (3, .int p2)] := hl
  unfold cl_X0_cut at hF
  have hL33 : ∀ (v1 : Int32) (v2 : Int32) (v3 : Int32) (n : Nat) (v4 : Int32) (v5 : Int32) (σ : cl_S) (ad : Nat → Nat) (H : Heap) (locs : List Loc) (ls : Array Slot), dx_lp (fun x => cl_X0_cut_L33 o0 x.2.2 v1 v2 v3 x.1 x.2.1) n (v4, v5, σ) = some (r, σ') → cl_at ad σ a0 o0 → cl_V D dA (ad0, cl_n σ0) ad A s.heap σ s H locs → lv_has ls 6 [(0, .ref a0), (1, .int v1), (2, .int v2), (3, .int v3), (4, .int v4), (5, .int v5)] → W p l e ({ frames := 6, cells := 0, slots := 0, locals := 140 }) s m ([.ref a0, .int p0, .int p1, .int p2] : List Value).toArray below meth c H locs 0 0 (MQ below (cl_Qi D dA ad0 A σ0 σ' r) ([.ref a0, .int p0, .int p1, .int p2] : List Value).toArray s 0 0 A) (F0 m 33 ls []) := by
    intro v1 v2 v3 n
    induction n with
    | zero =>
      intro v4 v5 σ ad H locs ls hF e0 V hl
      exact (dx_lp_0 hF).elim
    | succ n ih33 =>
      intro v4 v5 σ ad H locs ls hF e0 V hl
      obtain ⟨y33, hF, hz33⟩ := dx_lp_s hF
      replace hF : cl_X0_cut_L33 o0 σ v1 v2 v3 v4 v5 = some y33 := hF
      unfold cl_X0_cut_L33 at hF
      have hJ81 : ∀ (σ : cl_S) (v4 : Int32) (v5 : Int32) (ad : Nat → Nat) (H : Heap) (locs : List Loc) (ls : Array Slot), cl_X0_cut_J81 o0 σ v1 v2 v3 v4 v5 = some y33 → cl_at ad σ a0 o0 → cl_V D dA (ad0, cl_n σ0) ad A s.heap σ s H locs → lv_has ls 6 [(0, .ref a0), (1, .int v1), (2, .int v2), (3, .int v3), (4, .int v4), (5, .int v5)] → W p l e ({ frames := 6, cells := 0, slots := 0, locals := 140 }) s m ([.ref a0, .int p0, .int p1, .int p2] : List Value).toArray below meth c H locs 0 0 (MQ below (cl_Qi D dA ad0 A σ0 σ' r) ([.ref a0, .int p0, .int p1, .int p2] : List Value).toArray s 0 0 A) (F0 m 81 ls []) := by
        intro σ v4 v5 ad H locs ls hF e0 V hl
        unfold cl_X0_cut_J81 at hF
        refine lv_aload_n hx hb dX0_cut_81 rfl (lv_at hl 0 rfl) ?_
        obtain ⟨hg, hF⟩ := dx_gd_some hF
        have k14 := of_decide_eq_true hg
        obtain ⟨hg, hF⟩ := dx_gd_some hF
        refine cl_gr S V e0 k14 rfl (by decide) in_X0 6 (by decide) rfl q274 rfl dX0_cut_82 (of_decide_eq_true hg) (fun bb15 ee15 => ?_)
        refine lv_aload_n hx hb dX0_cut_85 rfl (lv_at hl 0 rfl) ?_
        obtain ⟨hg, hF⟩ := dx_gd_some hF
        refine cl_gr S V e0 k14 rfl (by decide) in_X0 4 (by decide) rfl q272 rfl dX0_cut_86 (of_decide_eq_true hg) (fun bb16 ee16 => ?_)
        refine lv_iload_n hx hb dX0_cut_89 rfl (lv_at hl 1 rfl) ?_
        refine lv_iload_n hx hb dX0_cut_90 rfl (lv_at hl 2 rfl) ?_
        refine lv_iload hx hb dX0_cut_91 (lv_at hl 5 rfl) ?_
        obtain ⟨hg, hF⟩ := dx_gd_some hF
        have k18 := of_decide_eq_true hg
        obtain ⟨r17, σ17, h17c, hF⟩ := dx_b2_some hF
        obtain ⟨hg, hF⟩ := dx_gd_some hF
        refine cl_cr (va_runV (As := [.ref bb16, .int v1, .int v2, .int v5]) S (cm_X3_go l D dA _ A bb15 bb16 (cl_r σ o0 6) (cl_r σ o0 4) v1 v2 v5 σ _ _ ee15 ee16 h17c) (cwV 4 hts (lw_V q1155 q1156 q1157 q80 q1158) rfl rfl rfl ⟨rfl, cd_X3_go⟩ ⟨Nat.le_of_ble_eq_true rfl, Nat.le_of_ble_eq_true rfl⟩) (cl_preV V [.ref bb16, .int v1, .int v2, .int v5] ee15 k18 rfl (by decide)) rfl rfl hl.1 rfl (lv_room (Nat.le_of_ble_eq_true rfl)) dX0_cut_93 ⟨Nat.le_of_ble_eq_true rfl, Nat.le_of_ble_eq_true rfl⟩) V (of_decide_eq_true hg) (fun bb17 ad _ _ hag hle ee17 V => ?_)
        replace e0 := e0.mv hag hle
        obtain ⟨hg, hF⟩ := dx_gd_some hF
        have k19 := of_decide_eq_true hg
        obtain ⟨hg, hF⟩ := dx_gd_some hF
        refine cl_gr S V ee17 k19 rfl (by decide) in_X3 0 (by decide) rfl q215 rfl dX0_cut_96 (of_decide_eq_true hg) (fun bb20 ee20 => ?_)
        refine lv_iload_n hx hb dX0_cut_99 rfl (lv_at hl 3 rfl) ?_
        obtain ⟨hg, hF⟩ := dx_gd_some hF
        have k21 := of_decide_eq_true hg
        obtain ⟨hg, hF⟩ := dx_gd_some hF
        refine cl_ld S V ee20 k21 (dx_inb_in hg) dX0_cut_100 ?_
        refine lv_if_ne (tgt := 108) hx hb dX0_cut_101 (by decide) (fun hc => ?_) (fun hc => ?_)
        · replace hF := (if_neg hc).symm.trans hF
          refine lv_iinc (v := (v5 + (1 : Int32))) (lv' := [(5, .int (v5 + (1 : Int32))), (0, .ref a0), (1, .int v1), (2, .int v2), (3, .int v3), (4, .int v4)]) hx hb dX0_cut_108 hl (k := 5) rfl rfl (by decide) rfl (fun ls hl => ?_)
          refine lv_goto (tgt := 33) hx hb dX0_cut_111 (by decide) ?_
          replace hF := Option.some.inj hF
          subst hF
          exact ih33 v4 (v5 + (1 : Int32)) σ17 _ _ _ _ (dx_lk_l hz33) e0 V (lv_sub hl [1, 2, 3, 4, 5, 0] rfl)
        · replace hF := (if_pos hc).symm.trans hF
          refine lv_iload hx hb dX0_cut_104 (lv_at hl 5 rfl) ?_
          refine lv_istore (lv' := [(4, .int v5), (0, .ref a0), (1, .int v1), (2, .int v2), (3, .int v3), (5, .int v5)]) hx hb dX0_cut_106 hl (by decide) rfl (fun ls hl => ?_)
          refine lv_iinc (v := (v5 + (1 : Int32))) (lv' := [(5, .int (v5 + (1 : Int32))), (4, .int v5), (0, .ref a0), (1, .int v1), (2, .int v2), (3, .int v3)]) hx hb dX0_cut_108 hl (k := 5) rfl rfl (by decide) rfl (fun ls hl => ?_)
          refine lv_goto (tgt := 33) hx hb dX0_cut_111 (by decide) ?_
          replace hF := Option.some.inj hF
          subst hF
          exact ih33 v5 (v5 + (1 : Int32)) σ17 _ _ _ _ (dx_lk_l hz33) e0 V (lv_sub hl [2, 3, 4, 5, 1, 0] rfl)
      refine lv_iload hx hb dX0_cut_33 (lv_at hl 5 rfl) ?_
      refine lv_aload_n hx hb dX0_cut_35 rfl (lv_at hl 0 rfl) ?_
      obtain ⟨hg, hF⟩ := dx_gd_some hF
      have k6 := of_decide_eq_true hg
      obtain ⟨hg, hF⟩ := dx_gd_some hF
      refine cl_gr S V e0 k6 rfl (by decide) in_X0 4 (by decide) rfl q272 rfl dX0_cut_36 (of_decide_eq_true hg) (fun bb7 ee7 => ?_)
      obtain ⟨hg, hF⟩ := dx_gd_some hF
      have k9 := of_decide_eq_true hg
      obtain ⟨r8, h8c, hF⟩ := dx_b1_some hF
      refine cl_ci (va_runV (As := []) S (cm_X2_all l D dA _ A bb7 (cl_r σ o0 4)  σ _ ee7 h8c) (cwV 0 hts (lw_V q1346 q1347 q1348 q79 q1349) rfl rfl rfl ⟨rfl, cd_X2_all⟩ ⟨Nat.le_of_ble_eq_true rfl, Nat.le_of_ble_eq_true rfl⟩) (cl_preV V [] ee7 k9 rfl (by decide)) rfl rfl hl.1 rfl (lv_room (Nat.le_of_ble_eq_true rfl)) dX0_cut_39 ⟨Nat.le_of_ble_eq_true rfl, Nat.le_of_ble_eq_true rfl⟩) V (fun ad _ _ hag hle V => ?_)
      replace e0 := e0.mv hag hle
      refine lv_icmp_ge (tgt := 114) hx hb dX0_cut_42 (by decide) (fun hc => ?_) (fun hc => ?_)
      · replace hF := (if_pos hc).symm.trans hF
        replace hF := dx_ex_k hF hz33
        refine lv_iload hx hb dX0_cut_114 (lv_at hl 4 rfl) ?_
        obtain ⟨hF1, hF2⟩ := dx_r2 hF
        subst hF1
        subst hF2
        exact cl_ri S V hr hlocks rfl dX0_cut_116
      · replace hF := (if_neg hc).symm.trans hF
        refine lv_iload hx hb dX0_cut_45 (lv_at hl 5 rfl) ?_
        obtain ⟨r10, h10c, hF⟩ := dx_b1_some hF
        refine dx_cPi S [.int v5] (cm_J17_bitCount l v5 _ h10c) (va_cwS 1 hts (lw_S q1350 q1351 q114 q1352) rfl rfl rfl cd_J17_bitCount ⟨Nat.le_of_ble_eq_true rfl, Nat.le_of_ble_eq_true rfl⟩) rfl rfl hl.1 (Nat.le_of_ble_eq_true rfl) dX0_cut_47 ⟨Nat.le_of_ble_eq_true rfl, Nat.le_of_ble_eq_true rfl⟩ ?_
        refine lv_iload hx hb dX0_cut_50 (lv_at hl 4 rfl) ?_
        obtain ⟨r11, h11c, hF⟩ := dx_b1_some hF
        refine dx_cPi S [.int v4] (cm_J17_bitCount l v4 _ h11c) (va_cwS 1 hts (lw_S q1350 q1351 q114 q1352) rfl rfl rfl cd_J17_bitCount ⟨Nat.le_of_ble_eq_true rfl, Nat.le_of_ble_eq_true rfl⟩) rfl rfl hl.1 (Nat.le_of_ble_eq_true rfl) dX0_cut_52 ⟨Nat.le_of_ble_eq_true rfl, Nat.le_of_ble_eq_true rfl⟩ ?_
        refine lv_icmp_gt (tgt := 108) hx hb dX0_cut_55 (by decide) (fun hc => ?_) (fun hc => ?_)
        · replace hF := (if_pos hc).symm.trans hF
          refine lv_iinc (v := (v5 + (1 : Int32))) (lv' := [(5, .int (v5 + (1 : Int32))), (0, .ref a0), (1, .int v1), (2, .int v2), (3, .int v3), (4, .int v4)]) hx hb dX0_cut_108 hl (k := 5) rfl rfl (by decide) rfl (fun ls hl => ?_)
          refine lv_goto (tgt := 33) hx hb dX0_cut_111 (by decide) ?_
          replace hF := Option.some.inj hF
          subst hF
          exact ih33 v4 (v5 + (1 : Int32)) σ _ _ _ _ (dx_lk_l hz33) e0 V (lv_sub hl [1, 2, 3, 4, 5, 0] rfl)
        · replace hF := (if_neg hc).symm.trans hF
          refine lv_iload hx hb dX0_cut_58 (lv_at hl 5 rfl) ?_
          obtain ⟨r12, h12c, hF⟩ := dx_b1_some hF
          refine dx_cPi S [.int v5] (cm_J17_bitCount l v5 _ h12c) (va_cwS 1 hts (lw_S q1350 q1351 q114 q1352) rfl rfl rfl cd_J17_bitCount ⟨Nat.le_of_ble_eq_true rfl, Nat.le_of_ble_eq_true rfl⟩) rfl rfl hl.1 (Nat.le_of_ble_eq_true rfl) dX0_cut_60 ⟨Nat.le_of_ble_eq_true rfl, Nat.le_of_ble_eq_true rfl⟩ ?_
          refine lv_iload hx hb dX0_cut_63 (lv_at hl 4 rfl) ?_
          obtain ⟨r13, h13c, hF⟩ := dx_b1_some hF
          refine dx_cPi S [.int v4] (cm_J17_bitCount l v4 _ h13c) (va_cwS 1 hts (lw_S q1350 q1351 q114 q1352) rfl rfl rfl cd_J17_bitCount ⟨Nat.le_of_ble_eq_true rfl, Nat.le_of_ble_eq_true rfl⟩) rfl rfl hl.1 (Nat.le_of_ble_eq_true rfl) dX0_cut_65 ⟨Nat.le_of_ble_eq_true rfl, Nat.le_of_ble_eq_true rfl⟩ ?_
          refine lv_icmp_ne (tgt := 81) hx hb dX0_cut_68 (by decide) (fun hc => ?_) (fun hc => ?_)
          · replace hF := (if_neg hc).symm.trans hF
            exact hJ81 σ v4 v5 _ _ _ _ hF e0 V (lv_sub hl [0, 1, 2, 3, 4, 5] rfl)
          · replace hF := (if_pos hc).symm.trans hF
            refine lv_iload hx hb dX0_cut_71 (lv_at hl 5 rfl) ?_
            refine lv_iload hx hb dX0_cut_73 (lv_at hl 4 rfl) ?_
            refine lv_icmp_le (tgt := 81) hx hb dX0_cut_75 (by decide) (fun hc => ?_) (fun hc => ?_)
            · replace hF := (if_pos hc).symm.trans hF
              exact hJ81 σ v4 v5 _ _ _ _ hF e0 V (lv_sub hl [0, 1, 2, 3, 4, 5] rfl)
            · replace hF := (if_neg hc).symm.trans hF
              refine lv_goto (tgt := 108) hx hb dX0_cut_78 (by decide) ?_
              refine lv_iinc (v := (v5 + (1 : Int32))) (lv' := [(5, .int (v5 + (1 : Int32))), (0, .ref a0), (1, .int v1), (2, .int v2), (3, .int v3), (4, .int v4)]) hx hb dX0_cut_108 hl (k := 5) rfl rfl (by decide) rfl (fun ls hl => ?_)
              refine lv_goto (tgt := 33) hx hb dX0_cut_111 (by decide) ?_
              replace hF := Option.some.inj hF
              subst hF
              exact ih33 v4 (v5 + (1 : Int32)) σ _ _ _ _ (dx_lk_l hz33) e0 V (lv_sub hl [1, 2, 3, 4, 5, 0] rfl)
  refine lv_aload_n hx hb dX0_cut_0 rfl (lv_at hl 0 rfl) ?_
  refine lv_iload_n hx hb dX0_cut_1 rfl (lv_at hl 1 rfl) ?_
  refine lv_iload_n hx hb dX0_cut_2 rfl (lv_at hl 2 rfl) ?_
  refine lv_iload_n hx hb dX0_cut_3 rfl (lv_at hl 3 rfl) ?_
  obtain ⟨hg, hF⟩ := dx_gd_some hF
  have k2 := of_decide_eq_true hg
  obtain ⟨r1, h1c, hF⟩ := dx_b1_some hF
  refine cl_ci (va_runV (As := [.int p0, .int p1, .int p2]) S (cm_X0_areSo l D dA _ A a0 o0 p0 p1 p2 σ0 _ e0 h1c) (cwV 3 hts (lw_V q1151 q1153 qs21 q77 q1154) rfl rfl rfl ⟨rfl, cd_X0_areSo⟩ ⟨Nat.le_of_ble_eq_true rfl, Nat.le_of_ble_eq_true rfl⟩) (cl_preV V [.int p0, .int p1, .int p2] e0 k2 rfl (by decide)) rfl rfl hl.1 rfl (lv_room (Nat.le_of_ble_eq_true rfl)) dX0_cut_4 ⟨Nat.le_of_ble_eq_true rfl, Nat.le_of_ble_eq_true rfl⟩) V (fun ad _ _ hag hle V => ?_)
  replace e0 := e0.mv hag hle
  refine lv_if_ne (tgt := 13) hx hb dX0_cut_7 (by decide) (fun hc => ?_) (fun hc => ?_)
  · replace hF := dx_ib_t (dx_bI_n hc) hF
    refine lv_iload_n hx hb dX0_cut_13 rfl (lv_at hl 1 rfl) ?_
    refine lv_iload_n hx hb dX0_cut_14 rfl (lv_at hl 3 rfl) ?_
    refine lv_icmp_ne (tgt := 21) hx hb dX0_cut_15 (by decide) (fun hc => ?_) (fun hc => ?_)
    · replace hF := (if_neg hc).symm.trans hF
      refine lv_aload_n hx hb dX0_cut_21 rfl (lv_at hl 0 rfl) ?_
      obtain ⟨hg, hF⟩ := dx_gd_some hF
      refine cl_gr S V e0 k2 rfl (by decide) in_X0 4 (by decide) rfl q272 rfl dX0_cut_22 (of_decide_eq_true hg) (fun bb3 ee3 => ?_)
      obtain ⟨hg, hF⟩ := dx_gd_some hF
      have k5 := of_decide_eq_true hg
      obtain ⟨r4, h4c, hF⟩ := dx_b1_some hF
      refine cl_ci (va_runV (As := []) S (cm_X2_all l D dA _ A bb3 (cl_r σ0 o0 4)  σ0 _ ee3 h4c) (cwV 0 hts (lw_V q1346 q1347 q1348 q79 q1349) rfl rfl rfl ⟨rfl, cd_X2_all⟩ ⟨Nat.le_of_ble_eq_true rfl, Nat.le_of_ble_eq_true rfl⟩) (cl_preV V [] ee3 k5 rfl (by decide)) rfl rfl hl.1 rfl (lv_room (Nat.le_of_ble_eq_true rfl)) dX0_cut_25 ⟨Nat.le_of_ble_eq_true rfl, Nat.le_of_ble_eq_true rfl⟩) V (fun ad _ _ hag hle V => ?_)
      replace e0 := e0.mv hag hle
      refine lv_istore (lv' := [(4, .int r4), (0, .ref a0), (1, .int p0), (2, .int p1), (3, .int p2)]) hx hb dX0_cut_28 hl (by decide) rfl (fun ls hl => ?_)
      refine lv_iconst (v := 0) hx hb dX0_cut_30 (by decide) ?_
      refine lv_istore (lv' := [(5, .int (0 : Int32)), (4, .int r4), (0, .ref a0), (1, .int p0), (2, .int p1), (3, .int p2)]) hx hb dX0_cut_31 hl (by decide) rfl (fun ls hl => ?_)
      exact hL33 p0 p1 p2 dx_fu r4 (0 : Int32) σ0 _ _ _ _ hF e0 V (lv_sub hl [2, 3, 4, 5, 1, 0] rfl)
    · replace hF := (if_pos hc).symm.trans hF
      refine lv_ldc hx hb hown (hts _ q1134) dX0_cut_18 ?_
      obtain ⟨hF1, hF2⟩ := dx_r2 hF
      subst hF1
      subst hF2
      exact cl_ri S V hr hlocks rfl dX0_cut_20
  · replace hF := dx_ib_f (dx_bI_0 hc) hF
    refine lv_ldc hx hb hown (hts _ q406) dX0_cut_10 ?_
    obtain ⟨hF1, hF2⟩ := dx_r2 hF
    subst hF1
    subst hF2
    exact cl_ri S V hr hlocks rfl dX0_cut_12
theorem cd_X0_common : yX0_common.cls ≠ "java/lang/invoke/MethodHandle" ∧ yX0_common.cls ≠ "java/lang/invoke/VarHandle" ∧ (parseMethodDescriptor yX0_common.desc).map (fun d => d.parameters.length) = some 3 := by decide +kernel
set_option maxHeartbeats 4000000 in
set_option maxRecDepth 100000 in
theorem cm_X0_common (l : Launch) (D : va_G) (dA : Nat → ClassId) (ad0 : Nat → Nat) (A : Nat → Prop) (a0 : Nat) (o0 : Nat) (p0 : Int32) (p1 : Int32) (p2 : Int32) (σ0 : cl_S) (r : Int32) (σ' : cl_S) (e0 : cl_at ad0 σ0 a0 o0) (hF : cl_X0_common o0 σ0 p0 p1 p2 = some (r, σ')) : cl_Ci l yX0_common cX0_common 6 .int ({ frames := 6, cells := 0, slots := 0, locals := 140 }) D dA ad0 A [.ref a0, .int p0, .int p1, .int p2] σ0 r σ' := by
  refine cl_in RX0 rfl (by decide) (Nat.le_of_ble_eq_true rfl) ?_
  intro p e s m below meth c ls S hr hlocks hini hv hl
  have hx := S.1
  have hb := S.2.1
  have hown := S.2.2.2.1
  have hts := S.2.2.2.2
  obtain ⟨hN, hK, hP, hD, hA, hZ⟩ := hv
  have V : cl_V D dA (ad0, cl_n σ0) ad0 A s.heap σ0 s s.heap [] := ⟨hN, hK, hP, hD, va_S.rf, hA, hZ, fun _ _ => rfl, Nat.le_refl _⟩
  obtain ⟨ad, V, e0⟩ : ∃ ad, cl_V D dA (ad0, cl_n σ0) ad A s.heap σ0 s s.heap [] ∧ cl_at ad σ0 a0 o0 := ⟨ad0, V, e0⟩
  replace hl : lv_has ls 6 [(0, .ref a0), (1, .int p0), (2, .int p1), (3, .int p2)] := hl
  unfold cl_X0_common at hF
  have hL43 : ∀ (v1 : Int32) (v2 : Int32) (v3 : Int32) (n : Nat) (v4 : Int32) (v5 : Int32) (σ : cl_S) (ad : Nat → Nat) (H : Heap) (locs : List Loc) (ls : Array Slot), dx_lp (fun x => cl_X0_common_L43 o0 x.2.2 v1 v2 v3 x.1 x.2.1) n (v4, v5, σ) = some (r, σ') → cl_at ad σ a0 o0 → cl_V D dA (ad0, cl_n σ0) ad A s.heap σ s H locs → lv_has ls 6 [(0, .ref a0), (1, .int v1), (2, .int v2), (3, .int v3), (4, .int v4), (5, .int v5)] → W p l e ({ frames := 6, cells := 0, slots := 0, locals := 140 }) s m ([.ref a0, .int p0, .int p1, .int p2] : List Value).toArray below meth c H locs 0 0 (MQ below (cl_Qi D dA ad0 A σ0 σ' r) ([.ref a0, .int p0, .int p1, .int p2] : List Value).toArray s 0 0 A) (F0 m 43 ls []) := by
    intro v1 v2 v3 n
    induction n with
    | zero =>
      intro v4 v5 σ ad H locs ls hF e0 V hl
      exact (dx_lp_0 hF).elim
    | succ n ih43 =>
      intro v4 v5 σ ad H locs ls hF e0 V hl
      obtain ⟨y43, hF, hz43⟩ := dx_lp_s hF
      replace hF : cl_X0_common_L43 o0 σ v1 v2 v3 v4 v5 = some y43 := hF
      unfold cl_X0_common_L43 at hF
      refine lv_iload hx hb dX0_common_43 (lv_at hl 5 rfl) ?_
      refine lv_aload_n hx hb dX0_common_45 rfl (lv_at hl 0 rfl) ?_
      obtain ⟨hg, hF⟩ := dx_gd_some hF
      have k10 := of_decide_eq_true hg
      obtain ⟨hg, hF⟩ := dx_gd_some hF
      refine cl_gr S V e0 k10 rfl (by decide) in_X0 4 (by decide) rfl q272 rfl dX0_common_46 (of_decide_eq_true hg) (fun bb11 ee11 => ?_)
      obtain ⟨hg, hF⟩ := dx_gd_some hF
      have k12 := of_decide_eq_true hg
      refine cl_gi S V ee11 k12 rfl (by decide) in_X2 0 (by decide) rfl q152 rfl dX0_common_49 ?_
      refine lv_icmp_ge (tgt := 119) hx hb dX0_common_52 (by decide) (fun hc => ?_) (fun hc => ?_)
      · replace hF := (if_pos hc).symm.trans hF
        replace hF := dx_ex_k hF hz43
        refine lv_iload hx hb dX0_common_119 (lv_at hl 4 rfl) ?_
        obtain ⟨hF1, hF2⟩ := dx_r2 hF
        subst hF1
        subst hF2
        exact cl_ri S V hr hlocks rfl dX0_common_121
      · replace hF := (if_neg hc).symm.trans hF
        refine lv_iload hx hb dX0_common_55 (lv_at hl 5 rfl) ?_
        refine lv_iload_n hx hb dX0_common_57 rfl (lv_at hl 1 rfl) ?_
        refine lv_icmp_eq (tgt := 113) hx hb dX0_common_58 (by decide) (fun hc => ?_) (fun hc => ?_)
        · replace hF := (if_pos hc).symm.trans hF
          refine lv_iinc (v := (v5 + (1 : Int32))) (lv' := [(5, .int (v5 + (1 : Int32))), (0, .ref a0), (1, .int v1), (2, .int v2), (3, .int v3), (4, .int v4)]) hx hb dX0_common_113 hl (k := 5) rfl rfl (by decide) rfl (fun ls hl => ?_)
          refine lv_goto (tgt := 43) hx hb dX0_common_116 (by decide) ?_
          replace hF := Option.some.inj hF
          subst hF
          exact ih43 v4 (v5 + (1 : Int32)) σ _ _ _ _ (dx_lk_l hz43) e0 V (lv_sub hl [1, 2, 3, 4, 5, 0] rfl)
        · replace hF := (if_neg hc).symm.trans hF
          refine lv_iload hx hb dX0_common_61 (lv_at hl 5 rfl) ?_
          refine lv_iload_n hx hb dX0_common_63 rfl (lv_at hl 3 rfl) ?_
          refine lv_icmp_ne (tgt := 70) hx hb dX0_common_64 (by decide) (fun hc => ?_) (fun hc => ?_)
          · replace hF := (if_neg hc).symm.trans hF
            refine lv_iload hx hb dX0_common_70 (lv_at hl 4 rfl) ?_
            refine lv_aload_n hx hb dX0_common_72 rfl (lv_at hl 0 rfl) ?_
            obtain ⟨hg, hF⟩ := dx_gd_some hF
            refine cl_gr S V e0 k10 rfl (by decide) in_X0 6 (by decide) rfl q274 rfl dX0_common_73 (of_decide_eq_true hg) (fun bb13 ee13 => ?_)
            refine lv_aload_n hx hb dX0_common_76 rfl (lv_at hl 0 rfl) ?_
            obtain ⟨hg, hF⟩ := dx_gd_some hF
            refine cl_gr S V e0 k10 rfl (by decide) in_X0 4 (by decide) rfl q272 rfl dX0_common_77 (of_decide_eq_true hg) (fun bb14 ee14 => ?_)
            refine lv_iload_n hx hb dX0_common_80 rfl (lv_at hl 1 rfl) ?_
            refine lv_iload_n hx hb dX0_common_81 rfl (lv_at hl 2 rfl) ?_
            refine lv_aload_n hx hb dX0_common_82 rfl (lv_at hl 0 rfl) ?_
            obtain ⟨hg, hF⟩ := dx_gd_some hF
            refine cl_gr S V e0 k10 rfl (by decide) in_X0 4 (by decide) rfl q272 rfl dX0_common_83 (of_decide_eq_true hg) (fun bb15 ee15 => ?_)
            refine lv_iload hx hb dX0_common_86 (lv_at hl 5 rfl) ?_
            obtain ⟨r16, h16c, hF⟩ := dx_b1_some hF
            refine cl_ci (va_runV (As := [.int v5]) S (cm_X2_of l D dA _ A bb15 (cl_r σ o0 4) v5 σ _ ee15 h16c) (cwV 1 hts (lw_V q1139 q1140 q1141 q79 q1142) rfl rfl rfl ⟨rfl, cd_X2_of⟩ ⟨Nat.le_of_ble_eq_true rfl, Nat.le_of_ble_eq_true rfl⟩) (cl_preV V [.int v5] ee15 k12 rfl (by decide)) rfl rfl hl.1 rfl (lv_room (Nat.le_of_ble_eq_true rfl)) dX0_common_88 ⟨Nat.le_of_ble_eq_true rfl, Nat.le_of_ble_eq_true rfl⟩) V (fun ad _ _ hag hle V => ?_)
            replace ee13 := ee13.mv hag hle
            replace ee14 := ee14.mv hag hle
            replace e0 := e0.mv hag hle
            obtain ⟨hg, hF⟩ := dx_gd_some hF
            have k18 := of_decide_eq_true hg
            obtain ⟨r17, σ17, h17c, hF⟩ := dx_b2_some hF
            obtain ⟨hg, hF⟩ := dx_gd_some hF
            refine cl_cr (va_runV (As := [.ref bb14, .int v1, .int v2, .int r16]) S (cm_X3_go l D dA _ A bb13 bb14 (cl_r σ o0 6) (cl_r σ o0 4) v1 v2 r16 σ _ _ ee13 ee14 h17c) (cwV 4 hts (lw_V q1155 q1156 q1157 q80 q1158) rfl rfl rfl ⟨rfl, cd_X3_go⟩ ⟨Nat.le_of_ble_eq_true rfl, Nat.le_of_ble_eq_true rfl⟩) (cl_preV V [.ref bb14, .int v1, .int v2, .int r16] ee13 k18 rfl (by decide)) rfl rfl hl.1 rfl (lv_room (Nat.le_of_ble_eq_true rfl)) dX0_common_91 ⟨Nat.le_of_ble_eq_true rfl, Nat.le_of_ble_eq_true rfl⟩) V (of_decide_eq_true hg) (fun bb17 ad _ _ hag hle ee17 V => ?_)
            replace e0 := e0.mv hag hle
            obtain ⟨hg, hF⟩ := dx_gd_some hF
            have k19 := of_decide_eq_true hg
            obtain ⟨hg, hF⟩ := dx_gd_some hF
            refine cl_gr S V ee17 k19 rfl (by decide) in_X3 0 (by decide) rfl q215 rfl dX0_common_94 (of_decide_eq_true hg) (fun bb20 ee20 => ?_)
            refine lv_iload_n hx hb dX0_common_97 rfl (lv_at hl 3 rfl) ?_
            obtain ⟨hg, hF⟩ := dx_gd_some hF
            have k21 := of_decide_eq_true hg
            obtain ⟨hg, hF⟩ := dx_gd_some hF
            refine cl_ld S V ee20 k21 (dx_inb_in hg) dX0_common_98 ?_
            refine lv_if_ne (tgt := 109) hx hb dX0_common_99 (by decide) (fun hc => ?_) (fun hc => ?_)
            · replace hF := (if_neg hc).symm.trans hF
              refine lv_iconst (v := 0) hx hb dX0_common_109 (by decide) ?_
              refine lv_ior hx hb dX0_common_110 ?_
              refine lv_istore (lv' := [(4, .int (v4 ||| (0 : Int32))), (0, .ref a0), (1, .int v1), (2, .int v2), (3, .int v3), (5, .int v5)]) hx hb dX0_common_111 hl (by decide) rfl (fun ls hl => ?_)
              refine lv_iinc (v := (v5 + (1 : Int32))) (lv' := [(5, .int (v5 + (1 : Int32))), (4, .int (v4 ||| (0 : Int32))), (0, .ref a0), (1, .int v1), (2, .int v2), (3, .int v3)]) hx hb dX0_common_113 hl (k := 5) rfl rfl (by decide) rfl (fun ls hl => ?_)
              refine lv_goto (tgt := 43) hx hb dX0_common_116 (by decide) ?_
              replace hF := Option.some.inj hF
              subst hF
              exact ih43 (v4 ||| (0 : Int32)) (v5 + (1 : Int32)) σ17 _ _ _ _ (dx_lk_l hz43) e0 V (lv_sub hl [2, 3, 4, 5, 1, 0] rfl)
            · replace hF := (if_pos hc).symm.trans hF
              refine lv_iconst (v := 1) hx hb dX0_common_102 (by decide) ?_
              refine lv_iload hx hb dX0_common_103 (lv_at hl 5 rfl) ?_
              refine lv_ishl hx hb dX0_common_105 ?_
              refine lv_goto (tgt := 110) hx hb dX0_common_106 (by decide) ?_
              refine lv_ior hx hb dX0_common_110 ?_
              refine lv_istore (lv' := [(4, .int (v4 ||| ((1 : Int32) <<< (v5 &&& 31)))), (0, .ref a0), (1, .int v1), (2, .int v2), (3, .int v3), (5, .int v5)]) hx hb dX0_common_111 hl (by decide) rfl (fun ls hl => ?_)
              refine lv_iinc (v := (v5 + (1 : Int32))) (lv' := [(5, .int (v5 + (1 : Int32))), (4, .int (v4 ||| ((1 : Int32) <<< (v5 &&& 31)))), (0, .ref a0), (1, .int v1), (2, .int v2), (3, .int v3)]) hx hb dX0_common_113 hl (k := 5) rfl rfl (by decide) rfl (fun ls hl => ?_)
              refine lv_goto (tgt := 43) hx hb dX0_common_116 (by decide) ?_
              replace hF := Option.some.inj hF
              subst hF
              exact ih43 (v4 ||| ((1 : Int32) <<< (v5 &&& 31))) (v5 + (1 : Int32)) σ17 _ _ _ _ (dx_lk_l hz43) e0 V (lv_sub hl [2, 3, 4, 5, 1, 0] rfl)
          · replace hF := (if_pos hc).symm.trans hF
            refine lv_goto (tgt := 113) hx hb dX0_common_67 (by decide) ?_
            refine lv_iinc (v := (v5 + (1 : Int32))) (lv' := [(5, .int (v5 + (1 : Int32))), (0, .ref a0), (1, .int v1), (2, .int v2), (3, .int v3), (4, .int v4)]) hx hb dX0_common_113 hl (k := 5) rfl rfl (by decide) rfl (fun ls hl => ?_)
            refine lv_goto (tgt := 43) hx hb dX0_common_116 (by decide) ?_
            replace hF := Option.some.inj hF
            subst hF
            exact ih43 v4 (v5 + (1 : Int32)) σ _ _ _ _ (dx_lk_l hz43) e0 V (lv_sub hl [1, 2, 3, 4, 5, 0] rfl)
  refine lv_aload_n hx hb dX0_common_0 rfl (lv_at hl 0 rfl) ?_
  refine lv_iload_n hx hb dX0_common_1 rfl (lv_at hl 1 rfl) ?_
  refine lv_iload_n hx hb dX0_common_2 rfl (lv_at hl 2 rfl) ?_
  refine lv_iload_n hx hb dX0_common_3 rfl (lv_at hl 3 rfl) ?_
  obtain ⟨hg, hF⟩ := dx_gd_some hF
  have k2 := of_decide_eq_true hg
  obtain ⟨r1, h1c, hF⟩ := dx_b1_some hF
  refine cl_ci (va_runV (As := [.int p0, .int p1, .int p2]) S (cm_X0_areSo l D dA _ A a0 o0 p0 p1 p2 σ0 _ e0 h1c) (cwV 3 hts (lw_V q1151 q1153 qs21 q77 q1154) rfl rfl rfl ⟨rfl, cd_X0_areSo⟩ ⟨Nat.le_of_ble_eq_true rfl, Nat.le_of_ble_eq_true rfl⟩) (cl_preV V [.int p0, .int p1, .int p2] e0 k2 rfl (by decide)) rfl rfl hl.1 rfl (lv_room (Nat.le_of_ble_eq_true rfl)) dX0_common_4 ⟨Nat.le_of_ble_eq_true rfl, Nat.le_of_ble_eq_true rfl⟩) V (fun ad _ _ hag hle V => ?_)
  replace e0 := e0.mv hag hle
  refine lv_if_ne (tgt := 13) hx hb dX0_common_7 (by decide) (fun hc => ?_) (fun hc => ?_)
  · replace hF := dx_ib_t (dx_bI_n hc) hF
    refine lv_aload_n hx hb dX0_common_13 rfl (lv_at hl 0 rfl) ?_
    obtain ⟨hg, hF⟩ := dx_gd_some hF
    refine cl_gr S V e0 k2 rfl (by decide) in_X0 6 (by decide) rfl q274 rfl dX0_common_14 (of_decide_eq_true hg) (fun bb3 ee3 => ?_)
    refine lv_aload_n hx hb dX0_common_17 rfl (lv_at hl 0 rfl) ?_
    obtain ⟨hg, hF⟩ := dx_gd_some hF
    refine cl_gr S V e0 k2 rfl (by decide) in_X0 4 (by decide) rfl q272 rfl dX0_common_18 (of_decide_eq_true hg) (fun bb4 ee4 => ?_)
    refine lv_iload_n hx hb dX0_common_21 rfl (lv_at hl 1 rfl) ?_
    refine lv_iload_n hx hb dX0_common_22 rfl (lv_at hl 2 rfl) ?_
    refine lv_iconst (v := 0) hx hb dX0_common_23 (by decide) ?_
    obtain ⟨hg, hF⟩ := dx_gd_some hF
    have k6 := of_decide_eq_true hg
    obtain ⟨r5, σ5, h5c, hF⟩ := dx_b2_some hF
    obtain ⟨hg, hF⟩ := dx_gd_some hF
    refine cl_cr (va_runV (As := [.ref bb4, .int p0, .int p1, .int (0 : Int32)]) S (cm_X3_go l D dA _ A bb3 bb4 (cl_r σ0 o0 6) (cl_r σ0 o0 4) p0 p1 (0 : Int32) σ0 _ _ ee3 ee4 h5c) (cwV 4 hts (lw_V q1155 q1156 q1157 q80 q1158) rfl rfl rfl ⟨rfl, cd_X3_go⟩ ⟨Nat.le_of_ble_eq_true rfl, Nat.le_of_ble_eq_true rfl⟩) (cl_preV V [.ref bb4, .int p0, .int p1, .int (0 : Int32)] ee3 k6 rfl (by decide)) rfl rfl hl.1 rfl (lv_room (Nat.le_of_ble_eq_true rfl)) dX0_common_24 ⟨Nat.le_of_ble_eq_true rfl, Nat.le_of_ble_eq_true rfl⟩) V (of_decide_eq_true hg) (fun bb5 ad _ _ hag hle ee5 V => ?_)
    replace e0 := e0.mv hag hle
    obtain ⟨hg, hF⟩ := dx_gd_some hF
    have k7 := of_decide_eq_true hg
    obtain ⟨hg, hF⟩ := dx_gd_some hF
    refine cl_gr S V ee5 k7 rfl (by decide) in_X3 0 (by decide) rfl q215 rfl dX0_common_27 (of_decide_eq_true hg) (fun bb8 ee8 => ?_)
    refine lv_iload_n hx hb dX0_common_30 rfl (lv_at hl 3 rfl) ?_
    obtain ⟨hg, hF⟩ := dx_gd_some hF
    have k9 := of_decide_eq_true hg
    obtain ⟨hg, hF⟩ := dx_gd_some hF
    refine cl_ld S V ee8 k9 (dx_inb_in hg) dX0_common_31 ?_
    refine lv_if_ne (tgt := 37) hx hb dX0_common_32 (by decide) (fun hc => ?_) (fun hc => ?_)
    · replace hF := (if_neg hc).symm.trans hF
      refine lv_iconst (v := 0) hx hb dX0_common_37 (by decide) ?_
      refine lv_istore (lv' := [(4, .int (0 : Int32)), (0, .ref a0), (1, .int p0), (2, .int p1), (3, .int p2)]) hx hb dX0_common_38 hl (by decide) rfl (fun ls hl => ?_)
      refine lv_iconst (v := 0) hx hb dX0_common_40 (by decide) ?_
      refine lv_istore (lv' := [(5, .int (0 : Int32)), (4, .int (0 : Int32)), (0, .ref a0), (1, .int p0), (2, .int p1), (3, .int p2)]) hx hb dX0_common_41 hl (by decide) rfl (fun ls hl => ?_)
      exact hL43 p0 p1 p2 dx_fu (0 : Int32) (0 : Int32) σ5 _ _ _ _ hF e0 V (lv_sub hl [2, 3, 4, 5, 1, 0] rfl)
    · replace hF := (if_pos hc).symm.trans hF
      refine lv_iconst (v := 0) hx hb dX0_common_35 (by decide) ?_
      obtain ⟨hF1, hF2⟩ := dx_r2 hF
      subst hF1
      subst hF2
      exact cl_ri S V hr hlocks rfl dX0_common_36
  · replace hF := dx_ib_f (dx_bI_0 hc) hF
    refine lv_ldc hx hb hown (hts _ q406) dX0_common_10 ?_
    obtain ⟨hF1, hF2⟩ := dx_r2 hF
    subst hF1
    subst hF2
    exact cl_ri S V hr hlocks rfl dX0_common_12
theorem cd_X0_measure : yX0_measure.cls ≠ "java/lang/invoke/MethodHandle" ∧ yX0_measure.cls ≠ "java/lang/invoke/VarHandle" ∧ (parseMethodDescriptor yX0_measure.desc).map (fun d => d.parameters.length) = some 2 := by decide +kernel
set_option maxHeartbeats 4000000 in
set_option maxRecDepth 100000 in
theorem cm_X0_measure (l : Launch) (p0 : Int64) (p1 : Int64) (r : Int64) (hF : cl_X0_measure p0 p1 = some r) : dx_Pl l yX0_measure cX0_measure 10 ({ frames := 0, cells := 0, slots := 0, locals := 0 }) [.long p0, .long p1] r := by
  refine dx_in RX0 rfl (by decide) (Nat.le_of_ble_eq_true rfl) ?_
  intro p e s m below meth c ls S hr hlocks hv hl
  have hx := S.1
  have hb := S.2.1
  have hown := S.2.2.2.1
  have hts := S.2.2.2.2
  replace hl : lv_has ls 10 [(0, .long p0), (2, .long p1)] := hl
  unfold cl_X0_measure at hF
  have hL6 : ∀  (n : Nat) (v4 : Int64) (v6 : Int64) (ls : Array Slot), dx_lp (fun x => cl_X0_measure_L6 x.1 x.2) n (v4, v6) = some r → lv_has ls 10 [(4, .long v4), (6, .long v6)] → W p l e ({ frames := 0, cells := 0, slots := 0, locals := 0 }) s m ([.long p0, .long p1] : List Value).toArray below meth c s.heap [] 0 0 (MQ below (vp_Sl (fun r2 => r2 = r)) ([.long p0, .long p1] : List Value).toArray s 0 0 (fun _ => False)) (F0 m 6 ls []) := by
    intro n
    induction n with
    | zero =>
      intro v4 v6 ls hF hl
      exact (dx_lp_0 hF).elim
    | succ n ih6 =>
      intro v4 v6 ls hF hl
      obtain ⟨y6, hF, hz6⟩ := dx_lp_s hF
      replace hF : cl_X0_measure_L6 v4 v6 = some y6 := hF
      unfold cl_X0_measure_L6 at hF
      refine lv_lload hx hb dX0_measure_6 (lv_at hl 1 rfl) ?_
      refine lv_lconst (v := 0) hx hb dX0_measure_8 (by decide) ?_
      refine W.lcmp hx hb dX0_measure_9 ?_
      refine lv_if_eq (tgt := 31) hx hb dX0_measure_10 (by decide) (fun hc => ?_) (fun hc => ?_)
      · replace hF := (if_pos hc).symm.trans hF
        replace hF := dx_ex_k hF hz6
        refine lv_lload hx hb dX0_measure_31 (lv_at hl 0 rfl) ?_
        replace hF := Option.some.inj hF
        subst hF
        exact dx_rPl S hr hlocks dX0_measure_33
      · replace hF := (if_neg hc).symm.trans hF
        refine lv_lload hx hb dX0_measure_13 (lv_at hl 0 rfl) ?_
        refine lv_lload hx hb dX0_measure_15 (lv_at hl 1 rfl) ?_
        obtain ⟨hg, hF⟩ := dx_gd_some hF
        refine lv_lrem hx hb dX0_measure_17 (of_decide_eq_true hg) ?_
        refine lv_lstore (lv' := [(8, .long (v4 - v4 / v6 * v6)), (4, .long v4), (6, .long v6)]) hx hb dX0_measure_18 hl (by decide) rfl (fun ls hl => ?_)
        refine lv_lload hx hb dX0_measure_20 (lv_at hl 2 rfl) ?_
        refine lv_lstore (lv' := [(4, .long v6), (8, .long (v4 - v4 / v6 * v6)), (6, .long v6)]) hx hb dX0_measure_22 hl (by decide) rfl (fun ls hl => ?_)
        refine lv_lload hx hb dX0_measure_24 (lv_at hl 1 rfl) ?_
        refine lv_lstore (lv' := [(6, .long (v4 - v4 / v6 * v6)), (4, .long v6), (8, .long (v4 - v4 / v6 * v6))]) hx hb dX0_measure_26 hl (by decide) rfl (fun ls hl => ?_)
        refine lv_goto (tgt := 6) hx hb dX0_measure_28 (by decide) ?_
        replace hF := Option.some.inj hF
        subst hF
        exact ih6 v6 (v4 - v4 / v6 * v6) _ (dx_lk_l hz6) (lv_sub hl [1, 0] rfl)
  refine lv_lload_n hx hb dX0_measure_0 rfl (lv_at hl 0 rfl) ?_
  refine lv_lstore (lv' := [(4, .long p0), (0, .long p0), (2, .long p1)]) hx hb dX0_measure_1 hl (by decide) rfl (fun ls hl => ?_)
  refine lv_lload_n hx hb dX0_measure_3 rfl (lv_at hl 2 rfl) ?_
  refine lv_lstore (lv' := [(6, .long p1), (4, .long p0), (0, .long p0), (2, .long p1)]) hx hb dX0_measure_4 hl (by decide) rfl (fun ls hl => ?_)
  exact hL6  dx_fu p0 p1 _ hF (lv_sub hl [1, 0] rfl)
theorem cd_X0_spared : yX0_spared.cls ≠ "java/lang/invoke/MethodHandle" ∧ yX0_spared.cls ≠ "java/lang/invoke/VarHandle" ∧ (parseMethodDescriptor yX0_spared.desc).map (fun d => d.parameters.length) = some 4 := by decide +kernel
set_option maxHeartbeats 4000000 in
set_option maxRecDepth 100000 in
theorem cm_X0_spared (l : Launch) (D : va_G) (dA : Nat → ClassId) (ad0 : Nat → Nat) (A : Nat → Prop) (a0 : Nat) (o0 : Nat) (p0 : Int32) (p1 : Int32) (p2 : Int32) (p3 : Int32) (σ0 : cl_S) (r : Int64) (σ' : cl_S) (e0 : cl_at ad0 σ0 a0 o0) (hF : cl_X0_spared o0 σ0 p0 p1 p2 p3 = some (r, σ')) : cl_Cl l yX0_spared cX0_spared 13 ({ frames := 6, cells := 0, slots := 0, locals := 140 }) D dA ad0 A [.ref a0, .int p0, .int p1, .int p2, .int p3] σ0 r σ' := by
  refine cl_in RX0 rfl (by decide) (Nat.le_of_ble_eq_true rfl) ?_
  intro p e s m below meth c ls S hr hlocks hini hv hl
  have hx := S.1
  have hb := S.2.1
  have hown := S.2.2.2.1
  have hts := S.2.2.2.2
  obtain ⟨hN, hK, hP, hD, hA, hZ⟩ := hv
  have V : cl_V D dA (ad0, cl_n σ0) ad0 A s.heap σ0 s s.heap [] := ⟨hN, hK, hP, hD, va_S.rf, hA, hZ, fun _ _ => rfl, Nat.le_refl _⟩
  obtain ⟨ad, V, e0⟩ : ∃ ad, cl_V D dA (ad0, cl_n σ0) ad A s.heap σ0 s s.heap [] ∧ cl_at ad σ0 a0 o0 := ⟨ad0, V, e0⟩
  replace hl : lv_has ls 13 [(0, .ref a0), (1, .int p0), (2, .int p1), (3, .int p2), (4, .int p3)] := hl
  unfold cl_X0_spared at hF
  have hJ175 : ∀ (σ : cl_S) (v5 : Int64) (v7 : Int64) (t0 : Int64) (ad : Nat → Nat) (H : Heap) (locs : List Loc) (ls : Array Slot), cl_X0_spared_J175 o0 σ v5 v7 t0 = some (r, σ') → cl_V D dA (ad0, cl_n σ0) ad A s.heap σ s H locs → lv_has ls 13 [(5, .long v5), (7, .long v7)] → W p l e ({ frames := 6, cells := 0, slots := 0, locals := 140 }) s m ([.ref a0, .int p0, .int p1, .int p2, .int p3] : List Value).toArray below meth c H locs 0 0 (MQ below (cl_Ql D dA ad0 A σ0 σ' r) ([.ref a0, .int p0, .int p1, .int p2, .int p3] : List Value).toArray s 0 0 A) (F0 m 175 ls [.long t0]) := by
    intro σ v5 v7 t0 ad H locs ls hF V hl
    unfold cl_X0_spared_J175 at hF
    refine lv_lload hx hb dX0_spared_175 (lv_at hl 0 rfl) ?_
    refine lv_lload hx hb dX0_spared_177 (lv_at hl 1 rfl) ?_
    obtain ⟨r10, h10c, hF⟩ := dx_b1_some hF
    refine dx_cPl S [.long v5, .long v7] (cm_X0_measure l v5 v7 _ h10c) (va_cwS 2 hts (lw_S q1367 q1368 q77 q1369) rfl rfl rfl cd_X0_measure ⟨Nat.le_of_ble_eq_true rfl, Nat.le_of_ble_eq_true rfl⟩) rfl rfl hl.1 (Nat.le_of_ble_eq_true rfl) dX0_spared_179 ⟨Nat.le_of_ble_eq_true rfl, Nat.le_of_ble_eq_true rfl⟩ ?_
    obtain ⟨hg, hF⟩ := dx_gd_some hF
    refine lv_ldiv hx hb dX0_spared_182 (of_decide_eq_true hg) ?_
    obtain ⟨hF1, hF2⟩ := dx_r2 hF
    subst hF1
    subst hF2
    exact cl_rl S V hr hlocks dX0_spared_183
  have hL52 : ∀ (v1 : Int32) (v2 : Int32) (v3 : Int32) (v4 : Int32) (n : Nat) (v5 : Int64) (v7 : Int64) (v9 : Int32) (σ : cl_S) (ad : Nat → Nat) (H : Heap) (locs : List Loc) (ls : Array Slot), dx_lp (fun x => cl_X0_spared_L52 o0 x.2.2.2 v1 v2 v3 v4 x.1 x.2.1 x.2.2.1) n (v5, v7, v9, σ) = some (r, σ') → cl_at ad σ a0 o0 → cl_V D dA (ad0, cl_n σ0) ad A s.heap σ s H locs → lv_has ls 13 [(0, .ref a0), (1, .int v1), (2, .int v2), (3, .int v3), (4, .int v4), (5, .long v5), (7, .long v7), (9, .int v9)] → W p l e ({ frames := 6, cells := 0, slots := 0, locals := 140 }) s m ([.ref a0, .int p0, .int p1, .int p2, .int p3] : List Value).toArray below meth c H locs 0 0 (MQ below (cl_Ql D dA ad0 A σ0 σ' r) ([.ref a0, .int p0, .int p1, .int p2, .int p3] : List Value).toArray s 0 0 A) (F0 m 52 ls []) := by
    intro v1 v2 v3 v4 n
    induction n with
    | zero =>
      intro v5 v7 v9 σ ad H locs ls hF e0 V hl
      exact (dx_lp_0 hF).elim
    | succ n ih52 =>
      intro v5 v7 v9 σ ad H locs ls hF e0 V hl
      obtain ⟨y52, hF, hz52⟩ := dx_lp_s hF
      replace hF : cl_X0_spared_L52 o0 σ v1 v2 v3 v4 v5 v7 v9 = some y52 := hF
      unfold cl_X0_spared_L52 at hF
      have hL70 : ∀ (σ : cl_S) (v5 : Int64) (v7 : Int64) (v9 : Int32) (n : Nat) (v10 : Int64) (v12 : Int32) (ad : Nat → Nat) (H : Heap) (locs : List Loc) (ls : Array Slot), dx_lp (fun x => cl_X0_spared_L70 o0 σ v1 v2 v3 v4 v5 v7 v9 x.1 x.2) n (v10, v12) = some y52 → cl_at ad σ a0 o0 → cl_V D dA (ad0, cl_n σ0) ad A s.heap σ s H locs → lv_has ls 13 [(0, .ref a0), (1, .int v1), (2, .int v2), (3, .int v3), (4, .int v4), (5, .long v5), (7, .long v7), (9, .int v9), (10, .long v10), (12, .int v12)] → W p l e ({ frames := 6, cells := 0, slots := 0, locals := 140 }) s m ([.ref a0, .int p0, .int p1, .int p2, .int p3] : List Value).toArray below meth c H locs 0 0 (MQ below (cl_Ql D dA ad0 A σ0 σ' r) ([.ref a0, .int p0, .int p1, .int p2, .int p3] : List Value).toArray s 0 0 A) (F0 m 70 ls []) := by
        intro σ v5 v7 v9 n
        induction n with
        | zero =>
          intro v10 v12 ad H locs ls hF e0 V hl
          exact (dx_lp_0 hF).elim
        | succ n ih70 =>
          intro v10 v12 ad H locs ls hF e0 V hl
          obtain ⟨y70, hF, hz70⟩ := dx_lp_s hF
          replace hF : cl_X0_spared_L70 o0 σ v1 v2 v3 v4 v5 v7 v9 v10 v12 = some y70 := hF
          unfold cl_X0_spared_L70 at hF
          refine lv_iload hx hb dX0_spared_70 (lv_at hl 9 rfl) ?_
          refine lv_aload_n hx hb dX0_spared_72 rfl (lv_at hl 0 rfl) ?_
          obtain ⟨hg, hF⟩ := dx_gd_some hF
          have k11 := of_decide_eq_true hg
          obtain ⟨hg, hF⟩ := dx_gd_some hF
          refine cl_gr S V e0 k11 rfl (by decide) in_X0 4 (by decide) rfl q272 rfl dX0_spared_73 (of_decide_eq_true hg) (fun bb12 ee12 => ?_)
          obtain ⟨hg, hF⟩ := dx_gd_some hF
          have k13 := of_decide_eq_true hg
          refine cl_gi S V ee12 k13 rfl (by decide) in_X2 1 (by decide) rfl q157 rfl dX0_spared_76 ?_
          refine lv_icmp_ge (tgt := 113) hx hb dX0_spared_79 (by decide) (fun hc => ?_) (fun hc => ?_)
          · replace hF := (if_pos hc).symm.trans hF
            replace hF := dx_ex_k hF hz70
            refine lv_lload hx hb dX0_spared_113 (lv_at hl 6 rfl) ?_
            refine lv_lload hx hb dX0_spared_115 (lv_at hl 8 rfl) ?_
            refine lv_ladd hx hb dX0_spared_117 ?_
            refine lv_lstore (lv' := [(7, .long (v7 + v10)), (0, .ref a0), (1, .int v1), (2, .int v2), (3, .int v3), (4, .int v4), (5, .long v5), (9, .int v9), (10, .long v10), (12, .int v12)]) hx hb dX0_spared_118 hl (by decide) rfl (fun ls hl => ?_)
            refine lv_lload hx hb dX0_spared_120 (lv_at hl 8 rfl) ?_
            refine lv_lconst (v := 0) hx hb dX0_spared_122 (by decide) ?_
            refine W.lcmp hx hb dX0_spared_123 ?_
            refine lv_if_le (tgt := 157) hx hb dX0_spared_124 (by decide) (fun hc => ?_) (fun hc => ?_)
            · replace hF := (if_pos hc).symm.trans hF
              refine lv_iinc (v := (v9 + (1 : Int32))) (lv' := [(9, .int (v9 + (1 : Int32))), (7, .long (v7 + v10)), (0, .ref a0), (1, .int v1), (2, .int v2), (3, .int v3), (4, .int v4), (5, .long v5), (10, .long v10), (12, .int v12)]) hx hb dX0_spared_157 hl (k := 7) rfl rfl (by decide) rfl (fun ls hl => ?_)
              refine lv_goto (tgt := 52) hx hb dX0_spared_160 (by decide) ?_
              replace hF := Option.some.inj hF
              subst hF
              exact ih52 v5 (v7 + v10) (v9 + (1 : Int32)) σ _ _ _ _ (dx_lk_l hz52) e0 V (lv_sub hl [2, 3, 4, 5, 6, 7, 1, 0] rfl)
            · replace hF := (if_neg hc).symm.trans hF
              refine lv_aload_n hx hb dX0_spared_127 rfl (lv_at hl 1 rfl) ?_
              obtain ⟨hg, hF⟩ := dx_gd_some hF
              refine cl_gr S V e0 k11 rfl (by decide) in_X0 6 (by decide) rfl q274 rfl dX0_spared_128 (of_decide_eq_true hg) (fun bb14 ee14 => ?_)
              refine lv_aload_n hx hb dX0_spared_131 rfl (lv_at hl 1 rfl) ?_
              obtain ⟨hg, hF⟩ := dx_gd_some hF
              refine cl_gr S V e0 k11 rfl (by decide) in_X0 4 (by decide) rfl q272 rfl dX0_spared_132 (of_decide_eq_true hg) (fun bb15 ee15 => ?_)
              refine lv_iload_n hx hb dX0_spared_135 rfl (lv_at hl 2 rfl) ?_
              refine lv_iconst (v := 0) hx hb dX0_spared_136 (by decide) ?_
              refine lv_iload hx hb dX0_spared_137 (lv_at hl 7 rfl) ?_
              obtain ⟨hg, hF⟩ := dx_gd_some hF
              have k17 := of_decide_eq_true hg
              obtain ⟨r16, σ16, h16c, hF⟩ := dx_b2_some hF
              obtain ⟨hg, hF⟩ := dx_gd_some hF
              refine cl_cr (va_runV (As := [.ref bb15, .int v1, .int (0 : Int32), .int v9]) S (cm_X3_go l D dA _ A bb14 bb15 (cl_r σ o0 6) (cl_r σ o0 4) v1 (0 : Int32) v9 σ _ _ ee14 ee15 h16c) (cwV 4 hts (lw_V q1155 q1156 q1157 q80 q1158) rfl rfl rfl ⟨rfl, cd_X3_go⟩ ⟨Nat.le_of_ble_eq_true rfl, Nat.le_of_ble_eq_true rfl⟩) (cl_preV V [.ref bb15, .int v1, .int (0 : Int32), .int v9] ee14 k17 rfl (by decide)) rfl rfl hl.1 rfl (lv_room (Nat.le_of_ble_eq_true rfl)) dX0_spared_139 ⟨Nat.le_of_ble_eq_true rfl, Nat.le_of_ble_eq_true rfl⟩) V (of_decide_eq_true hg) (fun bb16 ad _ _ hag hle ee16 V => ?_)
              replace e0 := e0.mv hag hle
              obtain ⟨hg, hF⟩ := dx_gd_some hF
              have k18 := of_decide_eq_true hg
              obtain ⟨hg, hF⟩ := dx_gd_some hF
              refine cl_gr S V ee16 k18 rfl (by decide) in_X3 0 (by decide) rfl q215 rfl dX0_spared_142 (of_decide_eq_true hg) (fun bb19 ee19 => ?_)
              refine lv_iload_n hx hb dX0_spared_145 rfl (lv_at hl 3 rfl) ?_
              obtain ⟨hg, hF⟩ := dx_gd_some hF
              have k20 := of_decide_eq_true hg
              obtain ⟨hg, hF⟩ := dx_gd_some hF
              refine cl_ld S V ee19 k20 (dx_inb_in hg) dX0_spared_146 ?_
              refine lv_if_ne (tgt := 157) hx hb dX0_spared_147 (by decide) (fun hc => ?_) (fun hc => ?_)
              · replace hF := (if_neg hc).symm.trans hF
                refine lv_iinc (v := (v9 + (1 : Int32))) (lv' := [(9, .int (v9 + (1 : Int32))), (7, .long (v7 + v10)), (0, .ref a0), (1, .int v1), (2, .int v2), (3, .int v3), (4, .int v4), (5, .long v5), (10, .long v10), (12, .int v12)]) hx hb dX0_spared_157 hl (k := 7) rfl rfl (by decide) rfl (fun ls hl => ?_)
                refine lv_goto (tgt := 52) hx hb dX0_spared_160 (by decide) ?_
                replace hF := Option.some.inj hF
                subst hF
                exact ih52 v5 (v7 + v10) (v9 + (1 : Int32)) σ16 _ _ _ _ (dx_lk_l hz52) e0 V (lv_sub hl [2, 3, 4, 5, 6, 7, 1, 0] rfl)
              · replace hF := (if_pos hc).symm.trans hF
                refine lv_lload hx hb dX0_spared_150 (lv_at hl 6 rfl) ?_
                refine lv_lload hx hb dX0_spared_152 (lv_at hl 8 rfl) ?_
                refine lv_ladd hx hb dX0_spared_154 ?_
                refine lv_lstore (lv' := [(5, .long (v5 + v10)), (7, .long (v7 + v10)), (0, .ref a0), (1, .int v1), (2, .int v2), (3, .int v3), (4, .int v4), (9, .int v9), (10, .long v10), (12, .int v12)]) hx hb dX0_spared_155 hl (by decide) rfl (fun ls hl => ?_)
                refine lv_iinc (v := (v9 + (1 : Int32))) (lv' := [(9, .int (v9 + (1 : Int32))), (5, .long (v5 + v10)), (7, .long (v7 + v10)), (0, .ref a0), (1, .int v1), (2, .int v2), (3, .int v3), (4, .int v4), (10, .long v10), (12, .int v12)]) hx hb dX0_spared_157 hl (k := 7) rfl rfl (by decide) rfl (fun ls hl => ?_)
                refine lv_goto (tgt := 52) hx hb dX0_spared_160 (by decide) ?_
                replace hF := Option.some.inj hF
                subst hF
                exact ih52 (v5 + v10) (v7 + v10) (v9 + (1 : Int32)) σ16 _ _ _ _ (dx_lk_l hz52) e0 V (lv_sub hl [3, 4, 5, 6, 7, 1, 2, 0] rfl)
          · replace hF := (if_neg hc).symm.trans hF
            refine lv_lload hx hb dX0_spared_82 (lv_at hl 8 rfl) ?_
            refine lv_iload hx hb dX0_spared_84 (lv_at hl 7 rfl) ?_
            refine lv_iload hx hb dX0_spared_86 (lv_at hl 9 rfl) ?_
            obtain ⟨r21, h21c, hF⟩ := dx_b1_some hF
            refine dx_cPi S [.int v9, .int v12] (cm_X0_has l v9 v12 _ h21c) (va_cwS 2 hts (lw_S q1366 q1160 q77 q1161) rfl rfl rfl cd_X0_has ⟨Nat.le_of_ble_eq_true rfl, Nat.le_of_ble_eq_true rfl⟩) rfl rfl hl.1 (Nat.le_of_ble_eq_true rfl) dX0_spared_88 ⟨Nat.le_of_ble_eq_true rfl, Nat.le_of_ble_eq_true rfl⟩ ?_
            refine lv_if_eq (tgt := 99) hx hb dX0_spared_91 (by decide) (fun hc => ?_) (fun hc => ?_)
            · replace hF := dx_ib_f (dx_bI_0 hc) hF
              refine lv_bipush (v := 10) hx hb dX0_spared_99 (by decide) ?_
              refine lv_iload_n hx hb dX0_spared_101 rfl (lv_at hl 3 rfl) ?_
              refine lv_isub hx hb dX0_spared_102 ?_
              refine lv_i2l hx hb dX0_spared_103 rfl ?_
              refine lv_lmul hx hb dX0_spared_104 ?_
              refine lv_lstore (lv' := [(10, .long (v10 * ((10 : Int32) - v3).toInt64)), (0, .ref a0), (1, .int v1), (2, .int v2), (3, .int v3), (4, .int v4), (5, .long v5), (7, .long v7), (9, .int v9), (12, .int v12)]) hx hb dX0_spared_105 hl (by decide) rfl (fun ls hl => ?_)
              refine lv_iinc (v := (v12 + (1 : Int32))) (lv' := [(12, .int (v12 + (1 : Int32))), (10, .long (v10 * ((10 : Int32) - v3).toInt64)), (0, .ref a0), (1, .int v1), (2, .int v2), (3, .int v3), (4, .int v4), (5, .long v5), (7, .long v7), (9, .int v9)]) hx hb dX0_spared_107 hl (k := 9) rfl rfl (by decide) rfl (fun ls hl => ?_)
              refine lv_goto (tgt := 70) hx hb dX0_spared_110 (by decide) ?_
              replace hF := Option.some.inj hF
              subst hF
              exact ih70 (v10 * ((10 : Int32) - v3).toInt64) (v12 + (1 : Int32)) _ _ _ _ (dx_lk_l hz70) e0 V (lv_sub hl [2, 3, 4, 5, 6, 7, 8, 9, 1, 0] rfl)
            · replace hF := dx_ib_t (dx_bI_n hc) hF
              refine lv_iload_n hx hb dX0_spared_94 rfl (lv_at hl 3 rfl) ?_
              refine lv_i2l hx hb dX0_spared_95 rfl ?_
              refine lv_goto (tgt := 104) hx hb dX0_spared_96 (by decide) ?_
              refine lv_lmul hx hb dX0_spared_104 ?_
              refine lv_lstore (lv' := [(10, .long (v10 * v3.toInt64)), (0, .ref a0), (1, .int v1), (2, .int v2), (3, .int v3), (4, .int v4), (5, .long v5), (7, .long v7), (9, .int v9), (12, .int v12)]) hx hb dX0_spared_105 hl (by decide) rfl (fun ls hl => ?_)
              refine lv_iinc (v := (v12 + (1 : Int32))) (lv' := [(12, .int (v12 + (1 : Int32))), (10, .long (v10 * v3.toInt64)), (0, .ref a0), (1, .int v1), (2, .int v2), (3, .int v3), (4, .int v4), (5, .long v5), (7, .long v7), (9, .int v9)]) hx hb dX0_spared_107 hl (k := 9) rfl rfl (by decide) rfl (fun ls hl => ?_)
              refine lv_goto (tgt := 70) hx hb dX0_spared_110 (by decide) ?_
              replace hF := Option.some.inj hF
              subst hF
              exact ih70 (v10 * v3.toInt64) (v12 + (1 : Int32)) _ _ _ _ (dx_lk_l hz70) e0 V (lv_sub hl [2, 3, 4, 5, 6, 7, 8, 9, 1, 0] rfl)
      refine lv_iload hx hb dX0_spared_52 (lv_at hl 7 rfl) ?_
      refine lv_aload_n hx hb dX0_spared_54 rfl (lv_at hl 0 rfl) ?_
      obtain ⟨hg, hF⟩ := dx_gd_some hF
      have k6 := of_decide_eq_true hg
      obtain ⟨hg, hF⟩ := dx_gd_some hF
      refine cl_gr S V e0 k6 rfl (by decide) in_X0 4 (by decide) rfl q272 rfl dX0_spared_55 (of_decide_eq_true hg) (fun bb7 ee7 => ?_)
      obtain ⟨hg, hF⟩ := dx_gd_some hF
      have k9 := of_decide_eq_true hg
      obtain ⟨r8, h8c, hF⟩ := dx_b1_some hF
      refine cl_ci (va_runV (As := []) S (cm_X2_all l D dA _ A bb7 (cl_r σ o0 4)  σ _ ee7 h8c) (cwV 0 hts (lw_V q1346 q1347 q1348 q79 q1349) rfl rfl rfl ⟨rfl, cd_X2_all⟩ ⟨Nat.le_of_ble_eq_true rfl, Nat.le_of_ble_eq_true rfl⟩) (cl_preV V [] ee7 k9 rfl (by decide)) rfl rfl hl.1 rfl (lv_room (Nat.le_of_ble_eq_true rfl)) dX0_spared_58 ⟨Nat.le_of_ble_eq_true rfl, Nat.le_of_ble_eq_true rfl⟩) V (fun ad _ _ hag hle V => ?_)
      replace e0 := e0.mv hag hle
      refine lv_icmp_gt (tgt := 163) hx hb dX0_spared_61 (by decide) (fun hc => ?_) (fun hc => ?_)
      · replace hF := (if_pos hc).symm.trans hF
        replace hF := dx_ex_k hF hz52
        refine lv_iload hx hb dX0_spared_163 (lv_at hl 4 rfl) ?_
        refine lv_if_ne (tgt := 173) hx hb dX0_spared_165 (by decide) (fun hc => ?_) (fun hc => ?_)
        · replace hF := (if_neg hc).symm.trans hF
          refine lv_lload hx hb dX0_spared_173 (lv_at hl 6 rfl) ?_
          exact hJ175 σ v5 v7 v7 _ _ _ _ hF V (lv_sub hl [5, 6] rfl)
        · replace hF := (if_pos hc).symm.trans hF
          refine lv_lload hx hb dX0_spared_168 (lv_at hl 5 rfl) ?_
          refine lv_goto (tgt := 175) hx hb dX0_spared_170 (by decide) ?_
          exact hJ175 σ v5 v7 v5 _ _ _ _ hF V (lv_sub hl [5, 6] rfl)
      · replace hF := (if_neg hc).symm.trans hF
        refine lv_lconst (v := 1) hx hb dX0_spared_64 (by decide) ?_
        refine lv_lstore (lv' := [(10, .long (1 : Int64)), (0, .ref a0), (1, .int v1), (2, .int v2), (3, .int v3), (4, .int v4), (5, .long v5), (7, .long v7), (9, .int v9)]) hx hb dX0_spared_65 hl (by decide) rfl (fun ls hl => ?_)
        refine lv_iconst (v := 0) hx hb dX0_spared_67 (by decide) ?_
        refine lv_istore (lv' := [(12, .int (0 : Int32)), (10, .long (1 : Int64)), (0, .ref a0), (1, .int v1), (2, .int v2), (3, .int v3), (4, .int v4), (5, .long v5), (7, .long v7), (9, .int v9)]) hx hb dX0_spared_68 hl (by decide) rfl (fun ls hl => ?_)
        exact hL70 σ v5 v7 v9 dx_fu (1 : Int64) (0 : Int32) _ _ _ _ hF e0 V (lv_sub hl [2, 3, 4, 5, 6, 7, 8, 9, 1, 0] rfl)
  refine lv_aload_n hx hb dX0_spared_0 rfl (lv_at hl 0 rfl) ?_
  refine lv_iload_n hx hb dX0_spared_1 rfl (lv_at hl 1 rfl) ?_
  obtain ⟨hg, hF⟩ := dx_gd_some hF
  have k2 := of_decide_eq_true hg
  obtain ⟨r1, h1c, hF⟩ := dx_b1_some hF
  refine cl_ci (va_runV (As := [.int p0]) S (cm_X0_isPerson l D dA _ A a0 o0 p0 σ0 _ e0 h1c) (cwV 1 hts (lw_V q1059 q1061 qs17 q77 q1062) rfl rfl rfl ⟨rfl, cd_X0_isPerson⟩ ⟨Nat.le_of_ble_eq_true rfl, Nat.le_of_ble_eq_true rfl⟩) (cl_preV V [.int p0] e0 k2 rfl (by decide)) rfl rfl hl.1 rfl (lv_room (Nat.le_of_ble_eq_true rfl)) dX0_spared_2 ⟨Nat.le_of_ble_eq_true rfl, Nat.le_of_ble_eq_true rfl⟩) V (fun ad _ _ hag hle V => ?_)
  replace e0 := e0.mv hag hle
  refine lv_if_eq (tgt := 39) hx hb dX0_spared_5 (by decide) (fun hc => ?_) (fun hc => ?_)
  · replace hF := dx_ib_f (dx_bI_0 hc) hF
    refine lv_ldc2 hx hb hown (hts _ q1365) dX0_spared_39 ?_
    obtain ⟨hF1, hF2⟩ := dx_r2 hF
    subst hF1
    subst hF2
    exact cl_rl S V hr hlocks dX0_spared_42
  · replace hF := dx_ib_t (dx_bI_n hc) hF
    refine lv_aload_n hx hb dX0_spared_8 rfl (lv_at hl 0 rfl) ?_
    refine lv_iload_n hx hb dX0_spared_9 rfl (lv_at hl 2 rfl) ?_
    obtain ⟨r3, h3c, hF⟩ := dx_b1_some hF
    refine cl_ci (va_runV (As := [.int p1]) S (cm_X0_isPerson l D dA _ A a0 o0 p1 σ0 _ e0 h3c) (cwV 1 hts (lw_V q1059 q1061 qs17 q77 q1062) rfl rfl rfl ⟨rfl, cd_X0_isPerson⟩ ⟨Nat.le_of_ble_eq_true rfl, Nat.le_of_ble_eq_true rfl⟩) (cl_preV V [.int p1] e0 k2 rfl (by decide)) rfl rfl hl.1 rfl (lv_room (Nat.le_of_ble_eq_true rfl)) dX0_spared_10 ⟨Nat.le_of_ble_eq_true rfl, Nat.le_of_ble_eq_true rfl⟩) V (fun ad _ _ hag hle V => ?_)
    replace e0 := e0.mv hag hle
    refine lv_if_eq (tgt := 39) hx hb dX0_spared_13 (by decide) (fun hc => ?_) (fun hc => ?_)
    · replace hF := dx_ib_f (dx_bI_0 hc) hF
      refine lv_ldc2 hx hb hown (hts _ q1365) dX0_spared_39 ?_
      obtain ⟨hF1, hF2⟩ := dx_r2 hF
      subst hF1
      subst hF2
      exact cl_rl S V hr hlocks dX0_spared_42
    · replace hF := dx_ib_t (dx_bI_n hc) hF
      refine lv_iload_n hx hb dX0_spared_16 rfl (lv_at hl 3 rfl) ?_
      refine lv_i2l hx hb dX0_spared_17 rfl ?_
      refine lv_lconst (v := 0) hx hb dX0_spared_18 (by decide) ?_
      refine lv_ldc2 hx hb hown (hts _ q1364) dX0_spared_19 ?_
      obtain ⟨r4, h4c, hF⟩ := dx_b1_some hF
      refine dx_cPi S [.long p2.toInt64, .long (0 : Int64), .long (10 : Int64)] (cm_X0_isIn l p2.toInt64 (0 : Int64) (10 : Int64) _ h4c) (va_cwS 3 hts (lw_S q402 q403 q77 q404) rfl rfl rfl cd_X0_isIn ⟨Nat.le_of_ble_eq_true rfl, Nat.le_of_ble_eq_true rfl⟩) rfl rfl hl.1 (Nat.le_of_ble_eq_true rfl) dX0_spared_22 ⟨Nat.le_of_ble_eq_true rfl, Nat.le_of_ble_eq_true rfl⟩ ?_
      refine lv_if_eq (tgt := 39) hx hb dX0_spared_25 (by decide) (fun hc => ?_) (fun hc => ?_)
      · replace hF := dx_ib_f (dx_bI_0 hc) hF
        refine lv_ldc2 hx hb hown (hts _ q1365) dX0_spared_39 ?_
        obtain ⟨hF1, hF2⟩ := dx_r2 hF
        subst hF1
        subst hF2
        exact cl_rl S V hr hlocks dX0_spared_42
      · replace hF := dx_ib_t (dx_bI_n hc) hF
        refine lv_iload hx hb dX0_spared_28 (lv_at hl 4 rfl) ?_
        refine lv_i2l hx hb dX0_spared_30 rfl ?_
        refine lv_lconst (v := 0) hx hb dX0_spared_31 (by decide) ?_
        refine lv_lconst (v := 1) hx hb dX0_spared_32 (by decide) ?_
        obtain ⟨r5, h5c, hF⟩ := dx_b1_some hF
        refine dx_cPi S [.long p3.toInt64, .long (0 : Int64), .long (1 : Int64)] (cm_X0_isIn l p3.toInt64 (0 : Int64) (1 : Int64) _ h5c) (va_cwS 3 hts (lw_S q402 q403 q77 q404) rfl rfl rfl cd_X0_isIn ⟨Nat.le_of_ble_eq_true rfl, Nat.le_of_ble_eq_true rfl⟩) rfl rfl hl.1 (Nat.le_of_ble_eq_true rfl) dX0_spared_33 ⟨Nat.le_of_ble_eq_true rfl, Nat.le_of_ble_eq_true rfl⟩ ?_
        refine lv_if_ne (tgt := 43) hx hb dX0_spared_36 (by decide) (fun hc => ?_) (fun hc => ?_)
        · replace hF := dx_ib_t (dx_bI_n hc) hF
          refine lv_lconst (v := 0) hx hb dX0_spared_43 (by decide) ?_
          refine lv_lstore (lv' := [(5, .long (0 : Int64)), (0, .ref a0), (1, .int p0), (2, .int p1), (3, .int p2), (4, .int p3)]) hx hb dX0_spared_44 hl (by decide) rfl (fun ls hl => ?_)
          refine lv_lconst (v := 0) hx hb dX0_spared_46 (by decide) ?_
          refine lv_lstore (lv' := [(7, .long (0 : Int64)), (5, .long (0 : Int64)), (0, .ref a0), (1, .int p0), (2, .int p1), (3, .int p2), (4, .int p3)]) hx hb dX0_spared_47 hl (by decide) rfl (fun ls hl => ?_)
          refine lv_iconst (v := 0) hx hb dX0_spared_49 (by decide) ?_
          refine lv_istore (lv' := [(9, .int (0 : Int32)), (7, .long (0 : Int64)), (5, .long (0 : Int64)), (0, .ref a0), (1, .int p0), (2, .int p1), (3, .int p2), (4, .int p3)]) hx hb dX0_spared_50 hl (by decide) rfl (fun ls hl => ?_)
          exact hL52 p0 p1 p2 p3 dx_fu (0 : Int64) (0 : Int64) (0 : Int32) σ0 _ _ _ _ hF e0 V (lv_sub hl [3, 4, 5, 6, 7, 2, 1, 0] rfl)
        · replace hF := dx_ib_f (dx_bI_0 hc) hF
          refine lv_ldc2 hx hb hown (hts _ q1365) dX0_spared_39 ?_
          obtain ⟨hF1, hF2⟩ := dx_r2 hF
          subst hF1
          subst hF2
          exact cl_rl S V hr hlocks dX0_spared_42
theorem cd_X0_isFor : yX0_isFor.cls ≠ "java/lang/invoke/MethodHandle" ∧ yX0_isFor.cls ≠ "java/lang/invoke/VarHandle" ∧ (parseMethodDescriptor yX0_isFor.desc).map (fun d => d.parameters.length) = some 2 := by decide +kernel
set_option maxHeartbeats 4000000 in
set_option maxRecDepth 100000 in
theorem cm_X0_isFor (l : Launch) (D : va_G) (dA : Nat → ClassId) (ad0 : Nat → Nat) (A : Nat → Prop) (a0 : Nat) (o0 : Nat) (p0 : Int32) (p1 : Int32) (σ0 : cl_S) (r : Bool) (e0 : cl_at ad0 σ0 a0 o0) (hF : cl_X0_isFor o0 σ0 p0 p1 = some r) : cl_Ci l yX0_isFor cX0_isFor 3 .boolean ({ frames := 2, cells := 0, slots := 0, locals := 46 }) D dA ad0 A [.ref a0, .int p0, .int p1] σ0 (dx_bI r) σ0 := by
  refine cl_in RX0 rfl (by decide) (Nat.le_of_ble_eq_true rfl) ?_
  intro p e s m below meth c ls S hr hlocks hini hv hl
  have hx := S.1
  have hb := S.2.1
  have hown := S.2.2.2.1
  have hts := S.2.2.2.2
  obtain ⟨hN, hK, hP, hD, hA, hZ⟩ := hv
  have V : cl_V D dA (ad0, cl_n σ0) ad0 A s.heap σ0 s s.heap [] := ⟨hN, hK, hP, hD, va_S.rf, hA, hZ, fun _ _ => rfl, Nat.le_refl _⟩
  obtain ⟨ad, V, e0⟩ : ∃ ad, cl_V D dA (ad0, cl_n σ0) ad A s.heap σ0 s s.heap [] ∧ cl_at ad σ0 a0 o0 := ⟨ad0, V, e0⟩
  replace hl : lv_has ls 3 [(0, .ref a0), (1, .int p0), (2, .int p1)] := hl
  unfold cl_X0_isFor at hF
  refine lv_iload_n hx hb dX0_isFor_0 rfl (lv_at hl 2 rfl) ?_
  by_cases hs0 : p1 = (0 : Int32)
  · replace hF := (if_pos hs0).symm.trans hF
    refine lv_tableIn (tgt := 28) hx hb dX0_isFor_1 (by rw [hs0]; decide) (by rw [hs0]; decide) (by rw [hs0]; rfl) (by decide) ?_
    refine lv_iconst (v := 1) hx hb dX0_isFor_28 (by decide) ?_
    refine lv_goto (tgt := 49) hx hb dX0_isFor_29 (by decide) ?_
    replace hF := Option.some.inj hF
    subst hF
    exact cl_ri S V hr hlocks rfl dX0_isFor_49
  replace hF := (if_neg hs0).symm.trans hF
  by_cases hs1 : p1 = (1 : Int32)
  · replace hF := (if_pos hs1).symm.trans hF
    refine lv_tableIn (tgt := 32) hx hb dX0_isFor_1 (by rw [hs1]; decide) (by rw [hs1]; decide) (by rw [hs1]; rfl) (by decide) ?_
    refine lv_aload_n hx hb dX0_isFor_32 rfl (lv_at hl 0 rfl) ?_
    refine lv_iload_n hx hb dX0_isFor_33 rfl (lv_at hl 1 rfl) ?_
    obtain ⟨hg, hF⟩ := dx_gd_some hF
    have k2 := of_decide_eq_true hg
    obtain ⟨r1, h1c, hF⟩ := dx_b1_some hF
    refine cl_ci (va_runV (As := [.int p0]) S (cm_X0_isContact l D dA _ A a0 o0 p0 σ0 _ e0 h1c) (cwV 1 hts (lw_V q1075 q1077 qs19 q77 q1078) rfl rfl rfl ⟨rfl, cd_X0_isContact⟩ ⟨Nat.le_of_ble_eq_true rfl, Nat.le_of_ble_eq_true rfl⟩) (cl_preV V [.int p0] e0 k2 rfl (by decide)) rfl rfl hl.1 rfl (lv_room (Nat.le_of_ble_eq_true rfl)) dX0_isFor_34 ⟨Nat.le_of_ble_eq_true rfl, Nat.le_of_ble_eq_true rfl⟩) V (fun ad _ _ hag hle V => ?_)
    replace e0 := e0.mv hag hle
    refine lv_goto (tgt := 49) hx hb dX0_isFor_37 (by decide) ?_
    replace hF := Option.some.inj hF
    subst hF
    exact cl_ri S V hr hlocks (dx_bI_nar _) dX0_isFor_49
  replace hF := (if_neg hs1).symm.trans hF
  by_cases hs2 : p1 = (2 : Int32)
  · replace hF := (if_pos hs2).symm.trans hF
    refine lv_tableIn (tgt := 40) hx hb dX0_isFor_1 (by rw [hs2]; decide) (by rw [hs2]; decide) (by rw [hs2]; rfl) (by decide) ?_
    refine lv_aload_n hx hb dX0_isFor_40 rfl (lv_at hl 0 rfl) ?_
    refine lv_iload_n hx hb dX0_isFor_41 rfl (lv_at hl 1 rfl) ?_
    obtain ⟨hg, hF⟩ := dx_gd_some hF
    have k4 := of_decide_eq_true hg
    obtain ⟨r3, h3c, hF⟩ := dx_b1_some hF
    refine cl_ci (va_runV (As := [.int p0]) S (cm_X0_isPerson l D dA _ A a0 o0 p0 σ0 _ e0 h3c) (cwV 1 hts (lw_V q1059 q1061 qs17 q77 q1062) rfl rfl rfl ⟨rfl, cd_X0_isPerson⟩ ⟨Nat.le_of_ble_eq_true rfl, Nat.le_of_ble_eq_true rfl⟩) (cl_preV V [.int p0] e0 k4 rfl (by decide)) rfl rfl hl.1 rfl (lv_room (Nat.le_of_ble_eq_true rfl)) dX0_isFor_42 ⟨Nat.le_of_ble_eq_true rfl, Nat.le_of_ble_eq_true rfl⟩) V (fun ad _ _ hag hle V => ?_)
    replace e0 := e0.mv hag hle
    refine lv_goto (tgt := 49) hx hb dX0_isFor_45 (by decide) ?_
    replace hF := Option.some.inj hF
    subst hF
    exact cl_ri S V hr hlocks (dx_bI_nar _) dX0_isFor_49
  replace hF := (if_neg hs2).symm.trans hF
  refine lv_tableOut (tgt := 48) hx hb dX0_isFor_1 (by have nhs0 := lv_neT hs0 (show ((0 : Int32)).toInt = 0 from rfl); have nhs1 := lv_neT hs1 (show ((1 : Int32)).toInt = 1 from rfl); have nhs2 := lv_neT hs2 (show ((2 : Int32)).toInt = 2 from rfl); omega) (by decide) ?_
  refine lv_iconst (v := 0) hx hb dX0_isFor_48 (by decide) ?_
  replace hF := Option.some.inj hF
  subst hF
  exact cl_ri S V hr hlocks rfl dX0_isFor_49
theorem cd_X0_items : yX0_items.cls ≠ "java/lang/invoke/MethodHandle" ∧ yX0_items.cls ≠ "java/lang/invoke/VarHandle" ∧ (parseMethodDescriptor yX0_items.desc).map (fun d => d.parameters.length) = some 3 := by decide +kernel
set_option maxHeartbeats 4000000 in
set_option maxRecDepth 100000 in
theorem cm_X0_items (l : Launch) (hlt : l.stackTraces = false) (D : va_G) (dA : Nat → ClassId) (ad0 : Nat → Nat) (A : Nat → Prop) (a0 : Nat) (o0 : Nat) (p0 : Int32) (p1 : Int32) (p2 : Int32) (σ0 : cl_S) (z : Nat ⊕ Nat) (σ' : cl_S) (e0 : cl_at ad0 σ0 a0 o0) (hF : cl_X0_items o0 σ0 p0 p1 p2 = some (z, σ')) : cx_Cr l yX0_items cX0_items 7 (.array .int) ({ frames := 10, cells := 2, slots := 48, locals := 10268 }) D dA ad0 A [.ref a0, .int p0, .int p1, .int p2] σ0 z σ' := by
  refine cx_in RX0 rfl (by decide) (Nat.le_of_ble_eq_true rfl) ?_
  intro p e s m below meth c ls S hr hlocks hini htab hv hl
  have hx := S.1
  have hb := S.2.1
  have hown := S.2.2.2.1
  have hts := S.2.2.2.2
  obtain ⟨hN, hK, hP, hD, hA, hZ⟩ := hv
  have V : cl_V D dA (ad0, cl_n σ0) ad0 A s.heap σ0 s s.heap [] := ⟨hN, hK, hP, hD, va_S.rf, hA, hZ, fun _ _ => rfl, Nat.le_refl _⟩
  obtain ⟨ad, V, e0⟩ : ∃ ad, cl_V D dA (ad0, cl_n σ0) ad A s.heap σ0 s s.heap [] ∧ cl_at ad σ0 a0 o0 := ⟨ad0, V, e0⟩
  replace hl : lv_has ls 7 [(0, .ref a0), (1, .int p0), (2, .int p1), (3, .int p2)] := hl
  unfold cl_X0_items at hF
  have hJ27 : ∀ (σ : cl_S) (ad : Nat → Nat) (H : Heap) (locs : List Loc) (ls : Array Slot), cl_X0_items_J27 o0 σ = some (z, σ') → cl_V D dA (ad0, cl_n σ0) ad A s.heap σ s H locs → lv_has ls 7 [] → W p l e ({ frames := 10, cells := 2, slots := 48, locals := 10268 }) s m ([.ref a0, .int p0, .int p1, .int p2] : List Value).toArray below meth c H locs 1 8 (vx_MQ below (cx_Qr D dA ad0 A σ0 σ' z) (cx_X D dA ad0 A σ0 σ' z) ([.ref a0, .int p0, .int p1, .int p2] : List Value).toArray s 2 48 A) (F0 m 27 ls []) := by
    intro σ ad H locs ls hF V hl
    unfold cl_X0_items_J27 at hF
    obtain ⟨hF1, hF2⟩ := dx_r2 hF
    subst hF1
    subst hF2
    exact cx_throwIx S V htab hlt hlocks hl.1 (Nat.le_of_ble_eq_true rfl) ⟨Nat.le_of_ble_eq_true rfl, Nat.le_of_ble_eq_true rfl⟩ ⟨Nat.le_of_ble_eq_true rfl, Nat.le_of_ble_eq_true rfl⟩ ⟨Nat.le_of_ble_eq_true rfl, Nat.le_of_ble_eq_true rfl⟩ q449 q91 dX0_items_27 dX0_items_30 dX0_items_31 dX0_items_34
  have hL43 : ∀ (v1 : Int32) (v2 : Int32) (v3 : Int32) (v5 : Nat) (n : Nat) (v6 : Int32) (σ : cl_S) (ad : Nat → Nat) (b5 : Nat) (H : Heap) (locs : List Loc) (ls : Array Slot), dx_lp (fun x => cl_X0_items_L43 o0 x.2 v1 v2 v3 v5 x.1) n (v6, σ) = some (z, σ') → cl_at ad σ a0 o0 → cl_at ad σ b5 v5 → cl_V D dA (ad0, cl_n σ0) ad A s.heap σ s H locs → lv_has ls 7 [(0, .ref a0), (1, .int v1), (2, .int v2), (3, .int v3), (5, .ref b5), (6, .int v6)] → W p l e ({ frames := 10, cells := 2, slots := 48, locals := 10268 }) s m ([.ref a0, .int p0, .int p1, .int p2] : List Value).toArray below meth c H locs 2 48 (vx_MQ below (cx_Qr D dA ad0 A σ0 σ' z) (cx_X D dA ad0 A σ0 σ' z) ([.ref a0, .int p0, .int p1, .int p2] : List Value).toArray s 2 48 A) (F0 m 43 ls []) := by
    intro v1 v2 v3 v5 n
    induction n with
    | zero =>
      intro v6 σ ad b5 H locs ls hF e0 e5 V hl
      exact (dx_lp_0 hF).elim
    | succ n ih43 =>
      intro v6 σ ad b5 H locs ls hF e0 e5 V hl
      obtain ⟨y43, hF, hz43⟩ := dx_lp_s hF
      replace hF : cl_X0_items_L43 o0 σ v1 v2 v3 v5 v6 = some y43 := hF
      unfold cl_X0_items_L43 at hF
      refine lv_iload hx hb dX0_items_43 (lv_at hl 5 rfl) ?_
      refine lv_iload_n hx hb dX0_items_45 rfl (lv_at hl 3 rfl) ?_
      refine lv_icmp_ge (tgt := 73) hx hb dX0_items_46 (by decide) (fun hc => ?_) (fun hc => ?_)
      · replace hF := (if_pos hc).symm.trans hF
        replace hF := dx_ex_k hF hz43
        refine lv_aload hx hb dX0_items_73 (lv_at hl 4 rfl) ?_
        refine W.widen (k := 2) (n := 48) (by first | omega | (dsimp only; omega)) (by first | omega | (dsimp only; omega)) ?_
        obtain ⟨hF1, hF2⟩ := dx_r2 hF
        subst hF1
        subst hF2
        exact cx_rr S V hr (Or.inr ⟨_, rfl⟩) hlocks e5 dX0_items_75
      · replace hF := (if_neg hc).symm.trans hF
        refine lv_aload hx hb dX0_items_49 (lv_at hl 4 rfl) ?_
        refine lv_iload hx hb dX0_items_51 (lv_at hl 5 rfl) ?_
        refine lv_aload_n hx hb dX0_items_53 rfl (lv_at hl 0 rfl) ?_
        obtain ⟨hg, hF⟩ := dx_gd_some hF
        have k9 := of_decide_eq_true hg
        obtain ⟨hg, hF⟩ := dx_gd_some hF
        refine cl_gr S V e0 k9 rfl (by decide) in_X0 0 (by decide) rfl q268 rfl dX0_items_54 (of_decide_eq_true hg) (fun bb10 ee10 => ?_)
        refine lv_iload_n hx hb dX0_items_57 rfl (lv_at hl 1 rfl) ?_
        obtain ⟨hg, hF⟩ := dx_gd_some hF
        have k11 := of_decide_eq_true hg
        obtain ⟨hi12, hF⟩ := dx_gd_some hF
        obtain ⟨hg, hF⟩ := dx_gd_some hF
        refine cl_lr 3 24 S V ee10 k11 (by decide) rfl (dx_inb_in hi12) dX0_items_58 (of_decide_eq_true hg) (fun bb13 ee13 => ?_)
        refine lv_iload_n hx hb dX0_items_59 rfl (lv_at hl 2 rfl) ?_
        refine lv_iload hx hb dX0_items_60 (lv_at hl 5 rfl) ?_
        refine lv_iadd hx hb dX0_items_62 ?_
        obtain ⟨hg, hF⟩ := dx_gd_some hF
        have k15 := of_decide_eq_true hg
        obtain ⟨r14, h14c, hF⟩ := dx_b1_some hF
        refine cl_ci (va_runVN (As := [.int (v2 + v6)]) S (cm_X1_at l D dA _ A bb13 (cl_r σ (cl_r σ o0 0) v1.toNatClampNeg) (v2 + v6) σ _ ee13 h14c) ⟨va_cnB 1 hts (lw_meth q478) rfl rfl rfl (V.1.1 _ cn_q1389) (hts _ q78) cd_X1_at ⟨Nat.le_of_ble_eq_true rfl, Nat.le_of_ble_eq_true rfl⟩, hts _ q477, hts _ qs5⟩ (cl_preV V [.int (v2 + v6)] ee13 k15 rfl (by decide)) rfl rfl hl.1 rfl (lv_room (Nat.le_of_ble_eq_true rfl)) dX0_items_63 ⟨Nat.le_of_ble_eq_true rfl, Nat.le_of_ble_eq_true rfl⟩) V (fun ad _ _ hag hle V => ?_)
        replace e5 := e5.mv hag hle
        replace e0 := e0.mv hag hle
        obtain ⟨hg, hF⟩ := dx_gd_some hF
        have k16 := of_decide_eq_true hg
        obtain ⟨hg, hF⟩ := dx_gd_some hF
        refine cl_st S V e5 k16 (dx_inb_in hg) dX0_items_66 (fun _ _ V => ?_)
        refine lv_iinc (v := (v6 + (1 : Int32))) (lv' := [(6, .int (v6 + (1 : Int32))), (0, .ref a0), (1, .int v1), (2, .int v2), (3, .int v3), (5, .ref b5)]) hx hb dX0_items_67 hl (k := 5) rfl rfl (by decide) rfl (fun ls hl => ?_)
        refine lv_goto (tgt := 43) hx hb dX0_items_70 (by decide) ?_
        refine W.widen (k := 2) (n := 48) (by first | omega | (dsimp only; omega)) (by first | omega | (dsimp only; omega)) ?_
        replace hF := Option.some.inj hF
        subst hF
        exact ih43 (v6 + (1 : Int32)) (cl_wi σ v5 v6.toNatClampNeg r14) _ _ _ _ _ (dx_lk_l hz43) e0 e5 V (lv_sub hl [1, 2, 3, 4, 5, 0] rfl)
  refine lv_aload_n hx hb dX0_items_0 rfl (lv_at hl 0 rfl) ?_
  obtain ⟨hg, hF⟩ := dx_gd_some hF
  have k1 := of_decide_eq_true hg
  obtain ⟨hg, hF⟩ := dx_gd_some hF
  refine cl_gr S V e0 k1 rfl (by decide) in_X0 0 (by decide) rfl q268 rfl dX0_items_1 (of_decide_eq_true hg) (fun bb2 ee2 => ?_)
  refine lv_iload_n hx hb dX0_items_4 rfl (lv_at hl 1 rfl) ?_
  obtain ⟨hg, hF⟩ := dx_gd_some hF
  have k3 := of_decide_eq_true hg
  obtain ⟨hi4, hF⟩ := dx_gd_some hF
  obtain ⟨hg, hF⟩ := dx_gd_some hF
  refine cl_lr 3 24 S V ee2 k3 (by decide) rfl (dx_inb_in hi4) dX0_items_5 (of_decide_eq_true hg) (fun bb5 ee5 => ?_)
  obtain ⟨hg, hF⟩ := dx_gd_some hF
  have k7 := of_decide_eq_true hg
  obtain ⟨z6, σ6, h6c, hF⟩ := dx_bx_some hF
  refine cx_ci (vx_runVN (As := []) S (cm_X1_many l hlt D dA _ A bb5 (cl_r σ0 (cl_r σ0 o0 0) p0.toNatClampNeg)  σ0 _ _ ee5 h6c) ⟨va_cnB 0 hts (lw_meth q508) rfl rfl rfl (V.1.1 _ cn_q505) (hts _ q78) cd_X1_many ⟨Nat.le_of_ble_eq_true rfl, Nat.le_of_ble_eq_true rfl⟩, hts _ q507, hts _ qs6⟩ (cl_preV V [] ee5 k7 rfl (by decide)) rfl rfl hl.1 rfl (lv_room (Nat.le_of_ble_eq_true rfl)) dX0_items_6 ⟨Nat.le_of_ble_eq_true rfl, Nat.le_of_ble_eq_true rfl⟩) V (fun x6 ce q9 ad _ _ hz hag hle hq9 V hce hcv hcl => ?_) (fun r6 ad _ _ hz hag hle V => ?_)
  · subst hz
    replace hF := dx_xs_r hF
    replace e0 := e0.mv hag hle
    obtain ⟨hF1, hF2⟩ := dx_r2 hF
    subst hF1
    subst hF2
    exact cx_out V htab hlocks hq9 hce hcv hcl (by first | omega | (dsimp only; omega)) (by first | omega | (dsimp only; omega))
  · subst hz
    replace hF := dx_xs_l hF
    replace e0 := e0.mv hag hle
    refine lv_istore (lv' := [(4, .int r6), (0, .ref a0), (1, .int p0), (2, .int p1), (3, .int p2)]) hx hb dX0_items_9 hl (by decide) rfl (fun ls hl => ?_)
    refine lv_iload_n hx hb dX0_items_11 rfl (lv_at hl 3 rfl) ?_
    refine lv_if_lt (tgt := 27) hx hb dX0_items_12 (by decide) (fun hc => ?_) (fun hc => ?_)
    · replace hF := (if_pos hc).symm.trans hF
      refine W.widen (k := 1) (n := 8) (by first | omega | (dsimp only; omega)) (by first | omega | (dsimp only; omega)) ?_
      exact hJ27 σ6 _ _ _ _ hF V (lv_sub hl [] rfl)
    · replace hF := (if_neg hc).symm.trans hF
      refine lv_iload_n hx hb dX0_items_15 rfl (lv_at hl 3 rfl) ?_
      refine lv_i2l hx hb dX0_items_16 rfl ?_
      refine lv_iload_n hx hb dX0_items_17 rfl (lv_at hl 4 rfl) ?_
      refine lv_i2l hx hb dX0_items_18 rfl ?_
      refine lv_ladd hx hb dX0_items_19 ?_
      refine lv_iload hx hb dX0_items_20 (lv_at hl 0 rfl) ?_
      refine lv_i2l hx hb dX0_items_22 rfl ?_
      refine W.lcmp hx hb dX0_items_23 ?_
      refine lv_if_le (tgt := 35) hx hb dX0_items_24 (by decide) (fun hc => ?_) (fun hc => ?_)
      · replace hF := (if_pos hc).symm.trans hF
        refine lv_iload_n hx hb dX0_items_35 rfl (lv_at hl 4 rfl) ?_
        obtain ⟨hg, hF⟩ := dx_gd_some hF
        replace hg := of_decide_eq_true hg
        refine cl_newaM 0 20 40 (atype := .int) S V (by decide) (by decide) (by decide) rfl rfl (fun _ _ h => h) q207 rfl hg (Nat.le_of_ble_eq_true rfl) (by decide) (Nat.le_of_ble_eq_true rfl) (Nat.le_of_ble_eq_true rfl) dX0_items_36 (fun bb8 ad _ hag ee8 V => ?_)
        replace e0 := cl_at.nw 20 p2.toNatClampNeg e0 hag
        have k8 : cl_k (cl_nw σ6 20 p2.toNatClampNeg) (cl_n σ6 + 1) = 20 := cl_k_nw
        refine lv_astore (lv' := [(5, .ref bb8), (4, .int r6), (0, .ref a0), (1, .int p0), (2, .int p1), (3, .int p2)]) hx hb dX0_items_38 hl (by decide) rfl (fun ls hl => ?_)
        refine lv_iconst (v := 0) hx hb dX0_items_40 (by decide) ?_
        refine lv_istore (lv' := [(6, .int (0 : Int32)), (5, .ref bb8), (4, .int r6), (0, .ref a0), (1, .int p0), (2, .int p1), (3, .int p2)]) hx hb dX0_items_41 hl (by decide) rfl (fun ls hl => ?_)
        refine W.widen (k := 2) (n := 48) (by first | omega | (dsimp only; omega)) (by first | omega | (dsimp only; omega)) ?_
        exact hL43 p0 p1 p2 (cl_n σ6 + 1) dx_fu (0 : Int32) (cl_nw σ6 20 p2.toNatClampNeg) _ _ _ _ _ hF e0 ee8 V (lv_sub hl [3, 4, 5, 6, 1, 0] rfl)
      · replace hF := (if_neg hc).symm.trans hF
        refine W.widen (k := 1) (n := 8) (by first | omega | (dsimp only; omega)) (by first | omega | (dsimp only; omega)) ?_
        exact hJ27 σ6 _ _ _ _ hF V (lv_sub hl [] rfl)
theorem cd_X0_asNow : yX0_asNow.cls ≠ "java/lang/invoke/MethodHandle" ∧ yX0_asNow.cls ≠ "java/lang/invoke/VarHandle" ∧ (parseMethodDescriptor yX0_asNow.desc).map (fun d => d.parameters.length) = some 0 := by decide +kernel
set_option maxHeartbeats 4000000 in
set_option maxRecDepth 100000 in
theorem cm_X0_asNow (l : Launch) (D : va_G) (dA : Nat → ClassId) (ad0 : Nat → Nat) (A : Nat → Prop) (a0 : Nat) (o0 : Nat)  (σ0 : cl_S) (r : Nat) (σ' : cl_S) (e0 : cl_at ad0 σ0 a0 o0) (hF : cl_X0_asNow o0 σ0 = some (r, σ')) : cl_Cr l yX0_asNow cX0_asNow 1 (.object "DatedContacts$Net") ({ frames := 2, cells := 0, slots := 0, locals := 47 }) D dA ad0 A [.ref a0] σ0 r σ' := by
  refine cl_in RX0 rfl (by decide) (Nat.le_of_ble_eq_true rfl) ?_
  intro p e s m below meth c ls S hr hlocks hini hv hl
  have hx := S.1
  have hb := S.2.1
  have hown := S.2.2.2.1
  have hts := S.2.2.2.2
  obtain ⟨hN, hK, hP, hD, hA, hZ⟩ := hv
  have V : cl_V D dA (ad0, cl_n σ0) ad0 A s.heap σ0 s s.heap [] := ⟨hN, hK, hP, hD, va_S.rf, hA, hZ, fun _ _ => rfl, Nat.le_refl _⟩
  obtain ⟨ad, V, e0⟩ : ∃ ad, cl_V D dA (ad0, cl_n σ0) ad A s.heap σ0 s s.heap [] ∧ cl_at ad σ0 a0 o0 := ⟨ad0, V, e0⟩
  replace hl : lv_has ls 1 [(0, .ref a0)] := hl
  unfold cl_X0_asNow at hF
  refine lv_aload_n hx hb dX0_asNow_0 rfl (lv_at hl 0 rfl) ?_
  obtain ⟨hg, hF⟩ := dx_gd_some hF
  have k1 := of_decide_eq_true hg
  obtain ⟨hg, hF⟩ := dx_gd_some hF
  refine cl_gr S V e0 k1 rfl (by decide) in_X0 5 (by decide) rfl q273 rfl dX0_asNow_1 (of_decide_eq_true hg) (fun bb2 ee2 => ?_)
  refine lv_aload_n hx hb dX0_asNow_4 rfl (lv_at hl 0 rfl) ?_
  obtain ⟨hg, hF⟩ := dx_gd_some hF
  refine cl_gr S V e0 k1 rfl (by decide) in_X0 4 (by decide) rfl q272 rfl dX0_asNow_5 (of_decide_eq_true hg) (fun bb3 ee3 => ?_)
  obtain ⟨hg, hF⟩ := dx_gd_some hF
  have k5 := of_decide_eq_true hg
  obtain ⟨r4, σ4, h4c, hF⟩ := dx_b2_some hF
  obtain ⟨hg, hF⟩ := dx_gd_some hF
  refine cl_cr (va_runV (As := [.ref bb3]) S (cm_X2_become l D dA _ A bb2 bb3 (cl_r σ0 o0 5) (cl_r σ0 o0 4)  σ0 _ _ ee2 ee3 h4c) (cwV 1 hts (lw_V q1046 q1047 q1048 q79 q1049) rfl rfl rfl ⟨rfl, cd_X2_become⟩ ⟨Nat.le_of_ble_eq_true rfl, Nat.le_of_ble_eq_true rfl⟩) (cl_preV V [.ref bb3] ee2 k5 rfl (by decide)) rfl rfl hl.1 rfl (lv_room (Nat.le_of_ble_eq_true rfl)) dX0_asNow_8 ⟨Nat.le_of_ble_eq_true rfl, Nat.le_of_ble_eq_true rfl⟩) V (of_decide_eq_true hg) (fun bb4 ad _ _ hag hle ee4 V => ?_)
  replace e0 := e0.mv hag hle
  obtain ⟨hF1, hF2⟩ := dx_r2 hF
  subst hF1
  subst hF2
  exact cl_rr S V hr (Or.inl ⟨_, rfl⟩) hlocks ee4 dX0_asNow_11
theorem cd_J17_numberOfTrailingZeros : yJ17_numberOfTrailingZeros.cls ≠ "java/lang/invoke/MethodHandle" ∧ yJ17_numberOfTrailingZeros.cls ≠ "java/lang/invoke/VarHandle" ∧ (parseMethodDescriptor yJ17_numberOfTrailingZeros.desc).map (fun d => d.parameters.length) = some 1 := by decide +kernel
set_option maxHeartbeats 4000000 in
set_option maxRecDepth 100000 in
theorem cm_J17_numberOfTrailingZeros (l : Launch) (p0 : Int32) (r : Int32) (hF : cl_J17_numberOfTrailingZeros p0 = some r) : dx_Pi l yJ17_numberOfTrailingZeros cJ17_numberOfTrailingZeros 2 .int ({ frames := 0, cells := 0, slots := 0, locals := 0 }) [.int p0] r := by
  refine dx_in RJ17 rfl (by decide) (Nat.le_of_ble_eq_true rfl) ?_
  intro p e s m below meth c ls S hr hlocks hv hl
  have hx := S.1
  have hb := S.2.1
  have hown := S.2.2.2.1
  have hts := S.2.2.2.2
  replace hl : lv_has ls 2 [(0, .int p0)] := hl
  unfold cl_J17_numberOfTrailingZeros at hF
  have hJ62 : ∀ (v0 : Int32) (v1 : Int32) (ls : Array Slot), cl_J17_numberOfTrailingZeros_J62 v0 v1 = some r → lv_has ls 2 [(0, .int v0), (1, .int v1)] → W p l e ({ frames := 0, cells := 0, slots := 0, locals := 0 }) s m ([.int p0] : List Value).toArray below meth c s.heap [] 0 0 (MQ below (vp_Si (fun r2 => r2 = r)) ([.int p0] : List Value).toArray s 0 0 (fun _ => False)) (F0 m 62 ls []) := by
    intro v0 v1 ls hF hl
    unfold cl_J17_numberOfTrailingZeros_J62 at hF
    refine lv_iload_n hx hb dJ17_numberOfTrailingZeros_62 rfl (lv_at hl 0 rfl) ?_
    refine lv_iconst (v := 4) hx hb dJ17_numberOfTrailingZeros_63 (by decide) ?_
    refine lv_icmp_le (tgt := 74) hx hb dJ17_numberOfTrailingZeros_64 (by decide) (fun hc => ?_) (fun hc => ?_)
    · replace hF := (if_pos hc).symm.trans hF
      refine lv_iload_n hx hb dJ17_numberOfTrailingZeros_74 rfl (lv_at hl 1 rfl) ?_
      refine lv_iload_n hx hb dJ17_numberOfTrailingZeros_75 rfl (lv_at hl 0 rfl) ?_
      refine lv_iconst (v := 1) hx hb dJ17_numberOfTrailingZeros_76 (by decide) ?_
      refine lv_iushr hx hb dJ17_numberOfTrailingZeros_77 rfl ?_
      refine lv_iadd hx hb dJ17_numberOfTrailingZeros_78 ?_
      replace hF := Option.some.inj hF
      subst hF
      exact dx_rPi S hr hlocks rfl dJ17_numberOfTrailingZeros_79
    · replace hF := (if_neg hc).symm.trans hF
      refine lv_iinc (v := (v1 + (2 : Int32))) (lv' := [(1, .int (v1 + (2 : Int32))), (0, .int v0)]) hx hb dJ17_numberOfTrailingZeros_67 hl (k := 1) rfl rfl (by decide) rfl (fun ls hl => ?_)
      refine lv_iload_n hx hb dJ17_numberOfTrailingZeros_70 rfl (lv_at hl 1 rfl) ?_
      refine lv_iconst (v := 2) hx hb dJ17_numberOfTrailingZeros_71 (by decide) ?_
      refine lv_iushr hx hb dJ17_numberOfTrailingZeros_72 rfl ?_
      refine lv_istore_n (lv' := [(0, .int ((v0.toUInt32 >>> ((2 : Int32).toUInt32 &&& Int32.toUInt32 31)).toInt32)), (1, .int (v1 + (2 : Int32)))]) hx hb dJ17_numberOfTrailingZeros_73 rfl hl (by decide) rfl (fun ls hl => ?_)
      refine lv_iload_n hx hb dJ17_numberOfTrailingZeros_74 rfl (lv_at hl 1 rfl) ?_
      refine lv_iload_n hx hb dJ17_numberOfTrailingZeros_75 rfl (lv_at hl 0 rfl) ?_
      refine lv_iconst (v := 1) hx hb dJ17_numberOfTrailingZeros_76 (by decide) ?_
      refine lv_iushr hx hb dJ17_numberOfTrailingZeros_77 rfl ?_
      refine lv_iadd hx hb dJ17_numberOfTrailingZeros_78 ?_
      replace hF := Option.some.inj hF
      subst hF
      exact dx_rPi S hr hlocks rfl dJ17_numberOfTrailingZeros_79
  have hJ49 : ∀ (v0 : Int32) (v1 : Int32) (ls : Array Slot), cl_J17_numberOfTrailingZeros_J49 v0 v1 = some r → lv_has ls 2 [(0, .int v0), (1, .int v1)] → W p l e ({ frames := 0, cells := 0, slots := 0, locals := 0 }) s m ([.int p0] : List Value).toArray below meth c s.heap [] 0 0 (MQ below (vp_Si (fun r2 => r2 = r)) ([.int p0] : List Value).toArray s 0 0 (fun _ => False)) (F0 m 49 ls []) := by
    intro v0 v1 ls hF hl
    unfold cl_J17_numberOfTrailingZeros_J49 at hF
    refine lv_iload_n hx hb dJ17_numberOfTrailingZeros_49 rfl (lv_at hl 0 rfl) ?_
    refine lv_bipush (v := 16) hx hb dJ17_numberOfTrailingZeros_50 (by decide) ?_
    refine lv_icmp_le (tgt := 62) hx hb dJ17_numberOfTrailingZeros_52 (by decide) (fun hc => ?_) (fun hc => ?_)
    · replace hF := (if_pos hc).symm.trans hF
      exact hJ62 v0 v1 _ hF (lv_sub hl [0, 1] rfl)
    · replace hF := (if_neg hc).symm.trans hF
      refine lv_iinc (v := (v1 + (4 : Int32))) (lv' := [(1, .int (v1 + (4 : Int32))), (0, .int v0)]) hx hb dJ17_numberOfTrailingZeros_55 hl (k := 1) rfl rfl (by decide) rfl (fun ls hl => ?_)
      refine lv_iload_n hx hb dJ17_numberOfTrailingZeros_58 rfl (lv_at hl 1 rfl) ?_
      refine lv_iconst (v := 4) hx hb dJ17_numberOfTrailingZeros_59 (by decide) ?_
      refine lv_iushr hx hb dJ17_numberOfTrailingZeros_60 rfl ?_
      refine lv_istore_n (lv' := [(0, .int ((v0.toUInt32 >>> ((4 : Int32).toUInt32 &&& Int32.toUInt32 31)).toInt32)), (1, .int (v1 + (4 : Int32)))]) hx hb dJ17_numberOfTrailingZeros_61 rfl hl (by decide) rfl (fun ls hl => ?_)
      exact hJ62 ((v0.toUInt32 >>> ((4 : Int32).toUInt32 &&& Int32.toUInt32 31)).toInt32) (v1 + (4 : Int32)) _ hF (lv_sub hl [0, 1] rfl)
  have hJ34 : ∀ (v0 : Int32) (v1 : Int32) (ls : Array Slot), cl_J17_numberOfTrailingZeros_J34 v0 v1 = some r → lv_has ls 2 [(0, .int v0), (1, .int v1)] → W p l e ({ frames := 0, cells := 0, slots := 0, locals := 0 }) s m ([.int p0] : List Value).toArray below meth c s.heap [] 0 0 (MQ below (vp_Si (fun r2 => r2 = r)) ([.int p0] : List Value).toArray s 0 0 (fun _ => False)) (F0 m 34 ls []) := by
    intro v0 v1 ls hF hl
    unfold cl_J17_numberOfTrailingZeros_J34 at hF
    refine lv_iload_n hx hb dJ17_numberOfTrailingZeros_34 rfl (lv_at hl 0 rfl) ?_
    refine lv_sipush (v := 256) hx hb dJ17_numberOfTrailingZeros_35 (by decide) ?_
    refine lv_icmp_le (tgt := 49) hx hb dJ17_numberOfTrailingZeros_38 (by decide) (fun hc => ?_) (fun hc => ?_)
    · replace hF := (if_pos hc).symm.trans hF
      exact hJ49 v0 v1 _ hF (lv_sub hl [0, 1] rfl)
    · replace hF := (if_neg hc).symm.trans hF
      refine lv_iinc (v := (v1 + (8 : Int32))) (lv' := [(1, .int (v1 + (8 : Int32))), (0, .int v0)]) hx hb dJ17_numberOfTrailingZeros_41 hl (k := 1) rfl rfl (by decide) rfl (fun ls hl => ?_)
      refine lv_iload_n hx hb dJ17_numberOfTrailingZeros_44 rfl (lv_at hl 1 rfl) ?_
      refine lv_bipush (v := 8) hx hb dJ17_numberOfTrailingZeros_45 (by decide) ?_
      refine lv_iushr hx hb dJ17_numberOfTrailingZeros_47 rfl ?_
      refine lv_istore_n (lv' := [(0, .int ((v0.toUInt32 >>> ((8 : Int32).toUInt32 &&& Int32.toUInt32 31)).toInt32)), (1, .int (v1 + (8 : Int32)))]) hx hb dJ17_numberOfTrailingZeros_48 rfl hl (by decide) rfl (fun ls hl => ?_)
      exact hJ49 ((v0.toUInt32 >>> ((8 : Int32).toUInt32 &&& Int32.toUInt32 31)).toInt32) (v1 + (8 : Int32)) _ hF (lv_sub hl [0, 1] rfl)
  refine lv_iload_n hx hb dJ17_numberOfTrailingZeros_0 rfl (lv_at hl 0 rfl) ?_
  refine lv_iconst (v := (-1)) hx hb dJ17_numberOfTrailingZeros_1 (by decide) ?_
  refine lv_ixor hx hb dJ17_numberOfTrailingZeros_2 ?_
  refine lv_iload_n hx hb dJ17_numberOfTrailingZeros_3 rfl (lv_at hl 0 rfl) ?_
  refine lv_iconst (v := 1) hx hb dJ17_numberOfTrailingZeros_4 (by decide) ?_
  refine lv_isub hx hb dJ17_numberOfTrailingZeros_5 ?_
  refine lv_iand hx hb dJ17_numberOfTrailingZeros_6 ?_
  refine lv_istore_n (lv' := [(0, .int ((p0 ^^^ (-1 : Int32)) &&& (p0 - (1 : Int32))))]) hx hb dJ17_numberOfTrailingZeros_7 rfl hl (by decide) rfl (fun ls hl => ?_)
  refine lv_iload_n hx hb dJ17_numberOfTrailingZeros_8 rfl (lv_at hl 0 rfl) ?_
  refine lv_if_gt (tgt := 17) hx hb dJ17_numberOfTrailingZeros_9 (by decide) (fun hc => ?_) (fun hc => ?_)
  · replace hF := (if_pos hc).symm.trans hF
    refine lv_iconst (v := 1) hx hb dJ17_numberOfTrailingZeros_17 (by decide) ?_
    refine lv_istore_n (lv' := [(1, .int (1 : Int32)), (0, .int ((p0 ^^^ (-1 : Int32)) &&& (p0 - (1 : Int32))))]) hx hb dJ17_numberOfTrailingZeros_18 rfl hl (by decide) rfl (fun ls hl => ?_)
    refine lv_iload_n hx hb dJ17_numberOfTrailingZeros_19 rfl (lv_at hl 1 rfl) ?_
    refine lv_ldcw hx hb hown (hts _ q1410) dJ17_numberOfTrailingZeros_20 ?_
    refine lv_icmp_le (tgt := 34) hx hb dJ17_numberOfTrailingZeros_23 (by decide) (fun hc => ?_) (fun hc => ?_)
    · replace hF := (if_pos hc).symm.trans hF
      exact hJ34 ((p0 ^^^ (-1 : Int32)) &&& (p0 - (1 : Int32))) (1 : Int32) _ hF (lv_sub hl [1, 0] rfl)
    · replace hF := (if_neg hc).symm.trans hF
      refine lv_iinc (v := ((1 : Int32) + (16 : Int32))) (lv' := [(1, .int ((1 : Int32) + (16 : Int32))), (0, .int ((p0 ^^^ (-1 : Int32)) &&& (p0 - (1 : Int32))))]) hx hb dJ17_numberOfTrailingZeros_26 hl (k := 0) rfl rfl (by decide) rfl (fun ls hl => ?_)
      refine lv_iload_n hx hb dJ17_numberOfTrailingZeros_29 rfl (lv_at hl 1 rfl) ?_
      refine lv_bipush (v := 16) hx hb dJ17_numberOfTrailingZeros_30 (by decide) ?_
      refine lv_iushr hx hb dJ17_numberOfTrailingZeros_32 rfl ?_
      refine lv_topi (fun x1 ex1 => ?_)
      replace hF := dx_let_e ex1 hF
      refine lv_istore_n (lv' := [(0, .int x1), (1, .int ((1 : Int32) + (16 : Int32)))]) hx hb dJ17_numberOfTrailingZeros_33 rfl hl (by decide) rfl (fun ls hl => ?_)
      exact hJ34 x1 ((1 : Int32) + (16 : Int32)) _ hF (lv_sub hl [0, 1] rfl)
  · replace hF := (if_neg hc).symm.trans hF
    refine lv_iload_n hx hb dJ17_numberOfTrailingZeros_12 rfl (lv_at hl 0 rfl) ?_
    refine lv_bipush (v := 32) hx hb dJ17_numberOfTrailingZeros_13 (by decide) ?_
    refine lv_iand hx hb dJ17_numberOfTrailingZeros_15 ?_
    replace hF := Option.some.inj hF
    subst hF
    exact dx_rPi S hr hlocks rfl dJ17_numberOfTrailingZeros_16
