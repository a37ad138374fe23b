/-! the class side read back and walked (printed by gen/clmain.py) -/
theorem cd_X3_first : yX3_first.cls ≠ "java/lang/invoke/MethodHandle" ∧ yX3_first.cls ≠ "java/lang/invoke/VarHandle" ∧ (parseMethodDescriptor yX3_first.desc).map (fun d => d.parameters.length) = some 1 := by decide +kernel
set_option maxHeartbeats 4000000 in
set_option maxRecDepth 100000 in
theorem cm_X3_first (l : Launch) (D : va_G) (dA : Nat → ClassId) (ad0 : Nat → Nat) (A : Nat → Prop) (a0 : Nat) (o0 : Nat) (p0 : Int32) (σ0 : cl_S) (r : Int32) (e0 : cl_at ad0 σ0 a0 o0) (hF : cl_X3_first o0 σ0 p0 = some r) : cl_Ci l yX3_first cX3_first 2 .int ({ frames := 1, cells := 0, slots := 0, locals := 21 }) D dA ad0 A [.ref a0, .int p0] σ0 r σ0 := by
  refine cl_in RX3 rfl (by decide) (Nat.le_of_ble_eq_true rfl) ?_
  intro p e s m below meth c ls S hr hlocks hini hv hl
  have hx := S.1
  have hb := S.2.1
  have hown := S.2.2.2.1
  have hts := S.2.2.2.2
  obtain ⟨hN, hK, hP, hD, hA, hZ⟩ := hv
  have V : cl_V D dA (ad0, cl_n σ0) ad0 A s.heap σ0 s s.heap [] := ⟨hN, hK, hP, hD, va_S.rf, hA, hZ, fun _ _ => rfl, Nat.le_refl _⟩
  obtain ⟨ad, V, e0⟩ : ∃ ad, cl_V D dA (ad0, cl_n σ0) ad A s.heap σ0 s s.heap [] ∧ cl_at ad σ0 a0 o0 := ⟨ad0, V, e0⟩
  replace hl : lv_has ls 2 [(0, .ref a0), (1, .int p0)] := hl
  unfold cl_X3_first at hF
  refine lv_aload_n hx hb dX3_first_0 rfl (lv_at hl 0 rfl) ?_
  obtain ⟨hg, hF⟩ := dx_gd_some hF
  have k1 := of_decide_eq_true hg
  obtain ⟨hg, hF⟩ := dx_gd_some hF
  refine cl_gr S V e0 k1 rfl (by decide) in_X3 0 (by decide) rfl q214 rfl dX3_first_1 (of_decide_eq_true hg) (fun bb2 ee2 => ?_)
  refine lv_iload_n hx hb dX3_first_4 rfl (lv_at hl 1 rfl) ?_
  obtain ⟨hg, hF⟩ := dx_gd_some hF
  have k3 := of_decide_eq_true hg
  obtain ⟨hg, hF⟩ := dx_gd_some hF
  refine cl_ld S V ee2 k3 (dx_inb_in hg) dX3_first_5 ?_
  refine lv_if_ne (tgt := 13) hx hb dX3_first_6 (by decide) (fun hc => ?_) (fun hc => ?_)
  · replace hF := (if_neg hc).symm.trans hF
    refine lv_aload_n hx hb dX3_first_13 rfl (lv_at hl 0 rfl) ?_
    obtain ⟨hg, hF⟩ := dx_gd_some hF
    refine cl_gr S V e0 k1 rfl (by decide) in_X3 0 (by decide) rfl q214 rfl dX3_first_14 (of_decide_eq_true hg) (fun bb4 ee4 => ?_)
    refine lv_iload_n hx hb dX3_first_17 rfl (lv_at hl 1 rfl) ?_
    obtain ⟨hg, hF⟩ := dx_gd_some hF
    refine cl_ld S V ee4 k3 (dx_inb_in hg) dX3_first_18 ?_
    obtain ⟨r5, h5c, hF⟩ := dx_b1_some hF
    refine dx_cPi S [.int (cl_i σ0 (cl_r σ0 o0 0) p0.toNatClampNeg)] (cm_J17_numberOfTrailingZeros l (cl_i σ0 (cl_r σ0 o0 0) p0.toNatClampNeg) _ h5c) (va_cwS 1 hts (lw_S q1407 q1408 q114 q1409) rfl rfl rfl cd_J17_numberOfTrailingZeros ⟨Nat.le_of_ble_eq_true rfl, Nat.le_of_ble_eq_true rfl⟩) rfl rfl hl.1 (Nat.le_of_ble_eq_true rfl) dX3_first_19 ⟨Nat.le_of_ble_eq_true rfl, Nat.le_of_ble_eq_true rfl⟩ ?_
    replace hF := Option.some.inj hF
    subst hF
    exact cl_ri S V hr hlocks rfl dX3_first_22
  · replace hF := (if_pos hc).symm.trans hF
    refine lv_iconst (v := (-1)) hx hb dX3_first_9 (by decide) ?_
    refine lv_goto (tgt := 22) hx hb dX3_first_10 (by decide) ?_
    replace hF := Option.some.inj hF
    subst hF
    exact cl_ri S V hr hlocks rfl dX3_first_22
theorem cd_X0_isSo : yX0_isSo.cls ≠ "java/lang/invoke/MethodHandle" ∧ yX0_isSo.cls ≠ "java/lang/invoke/VarHandle" ∧ (parseMethodDescriptor yX0_isSo.desc).map (fun d => d.parameters.length) = some 3 := by decide +kernel
set_option maxHeartbeats 4000000 in
set_option maxRecDepth 100000 in
theorem cm_X0_isSo (l : Launch) (D : va_G) (dA : Nat → ClassId) (ad0 : Nat → Nat) (A : Nat → Prop) (a0 : Nat) (a1 : Nat) (a3 : Nat) (o0 : Nat) (o1 : Nat) (o3 : Nat) (p1 : Int32) (σ0 : cl_S) (r : Bool) (σ' : cl_S) (e0 : cl_at ad0 σ0 a0 o0) (e1 : cl_at ad0 σ0 a1 o1) (e3 : cl_at ad0 σ0 a3 o3) (hF : cl_X0_isSo o0 o1 o3 σ0 p1 = some (r, σ')) : cl_Ci l yX0_isSo cX0_isSo 5 .boolean ({ frames := 6, cells := 0, slots := 0, locals := 140 }) D dA ad0 A [.ref a0, .ref a1, .int p1, .ref a3] σ0 (dx_bI r) σ' := by
  refine cl_in RX0 rfl (by decide) (Nat.le_of_ble_eq_true rfl) ?_
  intro p e s m below meth c ls S hr hlocks hini hv hl
  have hx := S.1
  have hb := S.2.1
  have hown := S.2.2.2.1
  have hts := S.2.2.2.2
  obtain ⟨hN, hK, hP, hD, hA, hZ⟩ := hv
  have V : cl_V D dA (ad0, cl_n σ0) ad0 A s.heap σ0 s s.heap [] := ⟨hN, hK, hP, hD, va_S.rf, hA, hZ, fun _ _ => rfl, Nat.le_refl _⟩
  obtain ⟨ad, V, e0, e1, e3⟩ : ∃ ad, cl_V D dA (ad0, cl_n σ0) ad A s.heap σ0 s s.heap [] ∧ cl_at ad σ0 a0 o0 ∧ cl_at ad σ0 a1 o1 ∧ cl_at ad σ0 a3 o3 := ⟨ad0, V, e0, e1, e3⟩
  replace hl : lv_has ls 5 [(0, .ref a0), (1, .ref a1), (2, .int p1), (3, .ref a3)] := hl
  unfold cl_X0_isSo at hF
  have hL15 : ∀ (σ : cl_S) (n : Nat) (v4 : Int32) (ad : Nat → Nat) (H : Heap) (locs : List Loc) (ls : Array Slot), dx_lp (fun x => cl_X0_isSo_L15 o0 o1 o3 σ x) n v4 = some (r, σ') → cl_at ad σ a0 o0 → cl_at ad σ a3 o3 → cl_V D dA (ad0, cl_n σ0) ad A s.heap σ s H locs → lv_has ls 5 [(0, .ref a0), (3, .ref a3), (4, .int v4)] → W p l e ({ frames := 6, cells := 0, slots := 0, locals := 140 }) s m ([.ref a0, .ref a1, .int p1, .ref a3] : List Value).toArray below meth c H locs 0 0 (MQ below (cl_Qi D dA ad0 A σ0 σ' (dx_bI r)) ([.ref a0, .ref a1, .int p1, .ref a3] : List Value).toArray s 0 0 A) (F0 m 15 ls []) := by
    intro σ n
    induction n with
    | zero =>
      intro v4 ad H locs ls hF e0 e3 V hl
      exact (dx_lp_0 hF).elim
    | succ n ih15 =>
      intro v4 ad H locs ls hF e0 e3 V hl
      obtain ⟨y15, hF, hz15⟩ := dx_lp_s hF
      replace hF : cl_X0_isSo_L15 o0 o1 o3 σ v4 = some y15 := hF
      unfold cl_X0_isSo_L15 at hF
      refine lv_iload hx hb dX0_isSo_15 (lv_at hl 2 rfl) ?_
      refine lv_aload_n hx hb dX0_isSo_17 rfl (lv_at hl 1 rfl) ?_
      obtain ⟨hg, hF⟩ := dx_gd_some hF
      have k5 := of_decide_eq_true hg
      refine cl_len 0 20 S V e3 k5 (by decide) (by decide) rfl dX0_isSo_18 ?_
      refine lv_icmp_ge (tgt := 46) hx hb dX0_isSo_19 (by decide) (fun hc => ?_) (fun hc => ?_)
      · replace hF := (if_pos hc).symm.trans hF
        replace hF := dx_ex_k hF hz15
        refine lv_iconst (v := 1) hx hb dX0_isSo_46 (by decide) ?_
        obtain ⟨hF1, hF2⟩ := dx_r2 hF
        subst hF1
        subst hF2
        exact cl_ri S V hr hlocks rfl dX0_isSo_47
      · replace hF := (if_neg hc).symm.trans hF
        refine lv_aload_n hx hb dX0_isSo_22 rfl (lv_at hl 0 rfl) ?_
        obtain ⟨hg, hF⟩ := dx_gd_some hF
        have k6 := of_decide_eq_true hg
        obtain ⟨hg, hF⟩ := dx_gd_some hF
        refine cl_gr S V e0 k6 rfl (by decide) in_X0 6 (by decide) rfl q274 rfl dX0_isSo_23 (of_decide_eq_true hg) (fun bb7 ee7 => ?_)
        refine lv_iload hx hb dX0_isSo_26 (lv_at hl 2 rfl) ?_
        obtain ⟨hg, hF⟩ := dx_gd_some hF
        have k9 := of_decide_eq_true hg
        obtain ⟨r8, h8c, hF⟩ := dx_b1_some hF
        refine cl_ci (va_runV (As := [.int v4]) S (cm_X3_first l D dA _ A bb7 (cl_r σ o0 6) v4 σ _ ee7 h8c) (cwV 1 hts (lw_V q1403 q1404 q1405 q80 q1406) rfl rfl rfl ⟨rfl, cd_X3_first⟩ ⟨Nat.le_of_ble_eq_true rfl, Nat.le_of_ble_eq_true rfl⟩) (cl_preV V [.int v4] ee7 k9 rfl (by decide)) rfl rfl hl.1 rfl (lv_room (Nat.le_of_ble_eq_true rfl)) dX0_isSo_28 ⟨Nat.le_of_ble_eq_true rfl, Nat.le_of_ble_eq_true rfl⟩) V (fun ad _ _ hag hle V => ?_)
        replace e0 := e0.mv hag hle
        replace e3 := e3.mv hag hle
        refine lv_aload_n hx hb dX0_isSo_31 rfl (lv_at hl 1 rfl) ?_
        refine lv_iload hx hb dX0_isSo_32 (lv_at hl 2 rfl) ?_
        obtain ⟨hg, hF⟩ := dx_gd_some hF
        refine cl_ld S V e3 k5 (dx_inb_in hg) dX0_isSo_34 ?_
        refine lv_icmp_eq (tgt := 40) hx hb dX0_isSo_35 (by decide) (fun hc => ?_) (fun hc => ?_)
        · replace hF := (if_pos hc).symm.trans hF
          refine lv_iinc (v := (v4 + (1 : Int32))) (lv' := [(4, .int (v4 + (1 : Int32))), (0, .ref a0), (3, .ref a3)]) hx hb dX0_isSo_40 hl (k := 2) rfl rfl (by decide) rfl (fun ls hl => ?_)
          refine lv_goto (tgt := 15) hx hb dX0_isSo_43 (by decide) ?_
          replace hF := Option.some.inj hF
          subst hF
          exact ih15 (v4 + (1 : Int32)) _ _ _ _ (dx_lk_l hz15) e0 e3 V (lv_sub hl [1, 2, 0] rfl)
        · replace hF := (if_neg hc).symm.trans hF
          replace hF := dx_ex_k hF hz15
          refine lv_iconst (v := 0) hx hb dX0_isSo_38 (by decide) ?_
          obtain ⟨hF1, hF2⟩ := dx_r2 hF
          subst hF1
          subst hF2
          exact cl_ri S V hr hlocks rfl dX0_isSo_39
  refine lv_aload_n hx hb dX0_isSo_0 rfl (lv_at hl 0 rfl) ?_
  obtain ⟨hg, hF⟩ := dx_gd_some hF
  have k1 := of_decide_eq_true hg
  obtain ⟨hg, hF⟩ := dx_gd_some hF
  refine cl_gr S V e0 k1 rfl (by decide) in_X0 6 (by decide) rfl q274 rfl dX0_isSo_1 (of_decide_eq_true hg) (fun bb2 ee2 => ?_)
  refine lv_aload_n hx hb dX0_isSo_4 rfl (lv_at hl 1 rfl) ?_
  refine lv_iload_n hx hb dX0_isSo_5 rfl (lv_at hl 2 rfl) ?_
  refine lv_iconst (v := 0) hx hb dX0_isSo_6 (by decide) ?_
  refine lv_iconst (v := 0) hx hb dX0_isSo_7 (by decide) ?_
  obtain ⟨hg, hF⟩ := dx_gd_some hF
  have k4 := of_decide_eq_true hg
  obtain ⟨r3, σ3, h3c, hF⟩ := dx_b2_some hF
  obtain ⟨hg, hF⟩ := dx_gd_some hF
  refine cl_cr (va_runV (As := [.ref a1, .int p1, .int (0 : Int32), .int (0 : Int32)]) S (cm_X3_go l D dA _ A bb2 a1 (cl_r σ0 o0 6) o1 p1 (0 : Int32) (0 : Int32) σ0 _ _ ee2 e1 h3c) (cwV 4 hts (lw_V q1155 q1156 q1157 q80 q1158) rfl rfl rfl ⟨rfl, cd_X3_go⟩ ⟨Nat.le_of_ble_eq_true rfl, Nat.le_of_ble_eq_true rfl⟩) (cl_preV V [.ref a1, .int p1, .int (0 : Int32), .int (0 : Int32)] ee2 k4 rfl (by decide)) rfl rfl hl.1 rfl (lv_room (Nat.le_of_ble_eq_true rfl)) dX0_isSo_8 ⟨Nat.le_of_ble_eq_true rfl, Nat.le_of_ble_eq_true rfl⟩) V (of_decide_eq_true hg) (fun bb3 ad _ _ hag hle ee3 V => ?_)
  replace e0 := e0.mv hag hle
  replace e1 := e1.mv hag hle
  replace e3 := e3.mv hag hle
  refine lv_pop hx hb dX0_isSo_11 rfl ?_
  refine lv_iconst (v := 0) hx hb dX0_isSo_12 (by decide) ?_
  refine lv_istore (lv' := [(4, .int (0 : Int32)), (0, .ref a0), (1, .ref a1), (2, .int p1), (3, .ref a3)]) hx hb dX0_isSo_13 hl (by decide) rfl (fun ls hl => ?_)
  exact hL15 σ3 dx_fu (0 : Int32) _ _ _ _ hF e0 e3 V (lv_sub hl [1, 4, 0] rfl)
theorem cd_X0_lowsBy : yX0_lowsBy.cls ≠ "java/lang/invoke/MethodHandle" ∧ yX0_lowsBy.cls ≠ "java/lang/invoke/VarHandle" ∧ (parseMethodDescriptor yX0_lowsBy.desc).map (fun d => d.parameters.length) = some 2 := by decide +kernel
set_option maxHeartbeats 4000000 in
set_option maxRecDepth 100000 in
theorem cm_X0_lowsBy (l : Launch) (D : va_G) (dA : Nat → ClassId) (ad0 : Nat → Nat) (A : Nat → Prop) (a0 : Nat) (a2 : Nat) (o0 : Nat) (o2 : Nat) (p0 : Int32) (σ0 : cl_S) (r : Int32) (σ' : cl_S) (e0 : cl_at ad0 σ0 a0 o0) (e2 : cl_at ad0 σ0 a2 o2) (hF : cl_X0_lowsBy o0 o2 σ0 p0 = some (r, σ')) : cl_Ci l yX0_lowsBy cX0_lowsBy 5 .int ({ frames := 7, cells := 110, slots := 220, locals := 164 }) D dA ad0 A [.ref a0, .int p0, .ref a2] σ0 r σ' := by
  refine cl_in RX0 rfl (by decide) (Nat.le_of_ble_eq_true rfl) ?_
  intro p e s m below meth c ls S hr hlocks hini hv hl
  have hx := S.1
  have hb := S.2.1
  have hown := S.2.2.2.1
  have hts := S.2.2.2.2
  obtain ⟨hN, hK, hP, hD, hA, hZ⟩ := hv
  have V : cl_V D dA (ad0, cl_n σ0) ad0 A s.heap σ0 s s.heap [] := ⟨hN, hK, hP, hD, va_S.rf, hA, hZ, fun _ _ => rfl, Nat.le_refl _⟩
  obtain ⟨ad, V, e0, e2⟩ : ∃ ad, cl_V D dA (ad0, cl_n σ0) ad A s.heap σ0 s s.heap [] ∧ cl_at ad σ0 a0 o0 ∧ cl_at ad σ0 a2 o2 := ⟨ad0, V, e0, e2⟩
  replace hl : lv_has ls 5 [(0, .ref a0), (1, .int p0), (2, .ref a2)] := hl
  unfold cl_X0_lowsBy at hF
  have hL5 : ∀ (v1 : Int32) (n : Nat) (v3 : Int32) (v4 : Int32) (σ : cl_S) (ad : Nat → Nat) (hn : n ≤ 10) (H : Heap) (locs : List Loc) (ls : Array Slot), dx_lp (fun x => cl_X0_lowsBy_L5 o0 o2 x.2.2 v1 x.1 x.2.1) n (v3, v4, σ) = some (r, σ') → cl_at ad σ a0 o0 → cl_at ad σ a2 o2 → cl_V D dA (ad0, cl_n σ0) ad A s.heap σ s H locs → lv_has ls 5 [(0, .ref a0), (1, .int v1), (2, .ref a2), (3, .int v3), (4, .int v4)] → W p l e ({ frames := 7, cells := 110, slots := 220, locals := 164 }) s m ([.ref a0, .int p0, .ref a2] : List Value).toArray below meth c H locs (0 + 11 * (10 - n)) (0 + 22 * (10 - n)) (MQ below (cl_Qi D dA ad0 A σ0 σ' r) ([.ref a0, .int p0, .ref a2] : List Value).toArray s 110 220 A) (F0 m 5 ls []) := by
    intro v1 n
    induction n with
    | zero =>
      intro v3 v4 σ ad hn H locs ls hF e0 e2 V hl
      exact (dx_lp_0 hF).elim
    | succ n ih5 =>
      intro v3 v4 σ ad hn H locs ls hF e0 e2 V hl
      obtain ⟨y5, hF, hz5⟩ := dx_lp_s hF
      replace hF : cl_X0_lowsBy_L5 o0 o2 σ v1 v3 v4 = some y5 := hF
      unfold cl_X0_lowsBy_L5 at hF
      refine lv_iload hx hb dX0_lowsBy_5 (lv_at hl 4 rfl) ?_
      refine lv_bipush (v := 9) hx hb dX0_lowsBy_7 (by decide) ?_
      refine lv_aload_n hx hb dX0_lowsBy_9 rfl (lv_at hl 0 rfl) ?_
      obtain ⟨hg, hF⟩ := dx_gd_some hF
      have k1 := of_decide_eq_true hg
      obtain ⟨hg, hF⟩ := dx_gd_some hF
      refine cl_gr S V e0 k1 rfl (by decide) in_X0 4 (by decide) rfl q272 rfl dX0_lowsBy_10 (of_decide_eq_true hg) (fun bb2 ee2 => ?_)
      obtain ⟨hg, hF⟩ := dx_gd_some hF
      have k3 := of_decide_eq_true hg
      refine cl_gi S V ee2 k3 rfl (by decide) in_X2 3 (by decide) rfl q163 rfl dX0_lowsBy_13 ?_
      refine va_mmin hx hb (by rw [hl.1]; exact S.2.2.1) hown (hts _ q1394) (hts _ q695) (hts _ q100) (hts _ q696) (Nat.le_of_ble_eq_true rfl) (Nat.le_of_ble_eq_true rfl) (by show _ ≤ 110; first | omega | (dsimp only; omega)) (by show _ ≤ 220; first | omega | (dsimp only; omega)) dX0_lowsBy_16 ?_
      refine lv_icmp_gt (tgt := 64) hx hb dX0_lowsBy_19 (by decide) (fun hc => ?_) (fun hc => ?_)
      · replace hF := (if_pos hc).symm.trans hF
        replace hF := dx_ex_k hF hz5
        refine W.widen (k := 110) (n := 220) (by first | omega | (dsimp only; omega)) (by first | omega | (dsimp only; omega)) ?_
        refine lv_iload_n hx hb dX0_lowsBy_64 rfl (lv_at hl 3 rfl) ?_
        refine W.widen (k := 110) (n := 220) (by first | omega | (dsimp only; omega)) (by first | omega | (dsimp only; omega)) ?_
        obtain ⟨hF1, hF2⟩ := dx_r2 hF
        subst hF1
        subst hF2
        exact cl_ri S V hr hlocks rfl dX0_lowsBy_65
      · replace hF := (if_neg hc).symm.trans hF
        refine lv_aload_n hx hb dX0_lowsBy_22 rfl (lv_at hl 0 rfl) ?_
        obtain ⟨r4, σ4, h4c, hF⟩ := dx_b2_some hF
        obtain ⟨hg, hF⟩ := dx_gd_some hF
        refine cl_cr (va_runV (As := []) S (cm_X0_asNow l D dA _ A a0 o0  σ _ _ e0 h4c) (cwV 0 hts (lw_V q1395 q1397 qs30 q77 q1398) rfl rfl rfl ⟨rfl, cd_X0_asNow⟩ ⟨Nat.le_of_ble_eq_true rfl, Nat.le_of_ble_eq_true rfl⟩) (cl_preV V [] e0 k1 rfl (by decide)) rfl rfl hl.1 rfl (lv_room (Nat.le_of_ble_eq_true rfl)) dX0_lowsBy_23 ⟨by show _ ≤ 110; first | omega | (dsimp only; omega), by show _ ≤ 220; first | omega | (dsimp only; omega)⟩) V (of_decide_eq_true hg) (fun bb4 ad _ _ hag hle ee4 V => ?_)
        replace e0 := e0.mv hag hle
        replace e2 := e2.mv hag hle
        refine lv_iload hx hb dX0_lowsBy_26 (lv_at hl 4 rfl) ?_
        obtain ⟨hg, hF⟩ := dx_gd_some hF
        have k5 := of_decide_eq_true hg
        refine cl_pi S V ee4 k5 rfl (by decide) in_X2 tyX2 tyX2_ok nmX2 2 (by decide) rfl q160 rfl rfl rfl dX0_lowsBy_28 (fun _ _ V => ?_)
        refine lv_iload_n hx hb dX0_lowsBy_31 rfl (lv_at hl 3 rfl) ?_
        refine lv_aload_n hx hb dX0_lowsBy_32 rfl (lv_at hl 0 rfl) ?_
        refine lv_aload_n hx hb dX0_lowsBy_33 rfl (lv_at hl 0 rfl) ?_
        obtain ⟨hg, hF⟩ := dx_gd_some hF
        have k6 := of_decide_eq_true hg
        obtain ⟨hg, hF⟩ := dx_gd_some hF
        refine cl_gr S V e0 k6 rfl (by decide) in_X0 5 (by decide) rfl q273 rfl dX0_lowsBy_34 (of_decide_eq_true hg) (fun bb7 ee7 => ?_)
        obtain ⟨hg, hF⟩ := dx_gd_some hF
        have k9 := of_decide_eq_true hg
        obtain ⟨r8, σ8, h8c, hF⟩ := dx_b2_some hF
        obtain ⟨hg, hF⟩ := dx_gd_some hF
        refine cl_cr (va_runV (As := []) S (cm_X2_stirred l D dA _ A bb7 (cl_r (cl_wi σ4 r4 2 v4) o0 5)  (cl_wi σ4 r4 2 v4) _ _ ee7 h8c) (cwV 0 hts (lw_V q982 q983 q984 q79 q985) rfl rfl rfl ⟨rfl, cd_X2_stirred⟩ ⟨Nat.le_of_ble_eq_true rfl, Nat.le_of_ble_eq_true rfl⟩) (cl_preV V [] ee7 k9 rfl (by decide)) rfl rfl hl.1 rfl (lv_room (Nat.le_of_ble_eq_true rfl)) dX0_lowsBy_37 ⟨by show _ ≤ 110; first | omega | (dsimp only; omega), by show _ ≤ 220; first | omega | (dsimp only; omega)⟩) V (of_decide_eq_true hg) (fun bb8 ad _ _ hag hle ee8 V => ?_)
        replace e0 := e0.mv hag hle
        replace e2 := e2.mv hag hle
        refine lv_iload_n hx hb dX0_lowsBy_40 rfl (lv_at hl 1 rfl) ?_
        refine lv_aload_n hx hb dX0_lowsBy_41 rfl (lv_at hl 2 rfl) ?_
        obtain ⟨hg, hF⟩ := dx_gd_some hF
        have k11 := of_decide_eq_true hg
        obtain ⟨r10, σ10, h10c, hF⟩ := dx_b2_some hF
        refine cl_ci (va_runV (As := [.ref bb8, .int v1, .ref a2]) S (cm_X0_isSo l D dA _ A a0 bb8 a2 o0 r8 o2 v1 σ8 _ _ e0 ee8 e2 h10c) (cwV 3 hts (lw_V q1399 q1401 qs31 q77 q1402) rfl rfl rfl ⟨rfl, cd_X0_isSo⟩ ⟨Nat.le_of_ble_eq_true rfl, Nat.le_of_ble_eq_true rfl⟩) (cl_preV V [.ref bb8, .int v1, .ref a2] e0 k11 rfl (by decide)) rfl rfl hl.1 rfl (lv_room (Nat.le_of_ble_eq_true rfl)) dX0_lowsBy_42 ⟨by show _ ≤ 110; first | omega | (dsimp only; omega), by show _ ≤ 220; first | omega | (dsimp only; omega)⟩) V (fun ad _ _ hag hle V => ?_)
        replace e0 := e0.mv hag hle
        replace e2 := e2.mv hag hle
        refine lv_if_eq (tgt := 55) hx hb dX0_lowsBy_45 (by decide) (fun hc => ?_) (fun hc => ?_)
        · replace hF := dx_ib_f (dx_bI_0 hc) hF
          refine lv_iconst (v := 0) hx hb dX0_lowsBy_55 (by decide) ?_
          refine lv_ior hx hb dX0_lowsBy_56 ?_
          refine lv_istore_n (lv' := [(3, .int (v3 ||| (0 : Int32))), (0, .ref a0), (1, .int v1), (2, .ref a2), (4, .int v4)]) hx hb dX0_lowsBy_57 rfl hl (by decide) rfl (fun ls hl => ?_)
          refine lv_iinc (v := (v4 + (1 : Int32))) (lv' := [(4, .int (v4 + (1 : Int32))), (3, .int (v3 ||| (0 : Int32))), (0, .ref a0), (1, .int v1), (2, .ref a2)]) hx hb dX0_lowsBy_58 hl (k := 4) rfl rfl (by decide) rfl (fun ls hl => ?_)
          refine lv_goto (tgt := 5) hx hb dX0_lowsBy_61 (by decide) ?_
          refine W.widen (k := 0 + 11 * (10 - n)) (n := 0 + 22 * (10 - n)) (by first | omega | (dsimp only; omega)) (by first | omega | (dsimp only; omega)) ?_
          replace hF := Option.some.inj hF
          subst hF
          exact ih5 (v3 ||| (0 : Int32)) (v4 + (1 : Int32)) σ10 _ (by omega) _ _ _ (dx_lk_l hz5) e0 e2 V (lv_sub hl [2, 3, 4, 1, 0] rfl)
        · replace hF := dx_ib_t (dx_bI_n hc) hF
          refine lv_iconst (v := 1) hx hb dX0_lowsBy_48 (by decide) ?_
          refine lv_iload hx hb dX0_lowsBy_49 (lv_at hl 4 rfl) ?_
          refine lv_ishl hx hb dX0_lowsBy_51 ?_
          refine lv_goto (tgt := 56) hx hb dX0_lowsBy_52 (by decide) ?_
          refine lv_ior hx hb dX0_lowsBy_56 ?_
          refine lv_istore_n (lv' := [(3, .int (v3 ||| ((1 : Int32) <<< (v4 &&& 31)))), (0, .ref a0), (1, .int v1), (2, .ref a2), (4, .int v4)]) hx hb dX0_lowsBy_57 rfl hl (by decide) rfl (fun ls hl => ?_)
          refine lv_iinc (v := (v4 + (1 : Int32))) (lv' := [(4, .int (v4 + (1 : Int32))), (3, .int (v3 ||| ((1 : Int32) <<< (v4 &&& 31)))), (0, .ref a0), (1, .int v1), (2, .ref a2)]) hx hb dX0_lowsBy_58 hl (k := 4) rfl rfl (by decide) rfl (fun ls hl => ?_)
          refine lv_goto (tgt := 5) hx hb dX0_lowsBy_61 (by decide) ?_
          refine W.widen (k := 0 + 11 * (10 - n)) (n := 0 + 22 * (10 - n)) (by first | omega | (dsimp only; omega)) (by first | omega | (dsimp only; omega)) ?_
          replace hF := Option.some.inj hF
          subst hF
          exact ih5 (v3 ||| ((1 : Int32) <<< (v4 &&& 31))) (v4 + (1 : Int32)) σ10 _ (by omega) _ _ _ (dx_lk_l hz5) e0 e2 V (lv_sub hl [2, 3, 4, 1, 0] rfl)
  refine lv_iconst (v := 0) hx hb dX0_lowsBy_0 (by decide) ?_
  refine lv_istore_n (lv' := [(3, .int (0 : Int32)), (0, .ref a0), (1, .int p0), (2, .ref a2)]) hx hb dX0_lowsBy_1 rfl hl (by decide) rfl (fun ls hl => ?_)
  refine lv_iconst (v := 1) hx hb dX0_lowsBy_2 (by decide) ?_
  refine lv_istore (lv' := [(4, .int (1 : Int32)), (3, .int (0 : Int32)), (0, .ref a0), (1, .int p0), (2, .ref a2)]) hx hb dX0_lowsBy_3 hl (by decide) rfl (fun ls hl => ?_)
  refine W.widen (k := 0 + 11 * (10 - 10)) (n := 0 + 22 * (10 - 10)) (by first | omega | (dsimp only; omega)) (by first | omega | (dsimp only; omega)) ?_
  exact hL5 p0 10 (0 : Int32) (1 : Int32) σ0 _ (by omega) _ _ _ hF e0 e2 V (lv_sub hl [2, 3, 4, 1, 0] rfl)
theorem cd_X0_daysBy : yX0_daysBy.cls ≠ "java/lang/invoke/MethodHandle" ∧ yX0_daysBy.cls ≠ "java/lang/invoke/VarHandle" ∧ (parseMethodDescriptor yX0_daysBy.desc).map (fun d => d.parameters.length) = some 3 := by decide +kernel
set_option maxHeartbeats 4000000 in
set_option maxRecDepth 100000 in
theorem cm_X0_daysBy (l : Launch) (D : va_G) (dA : Nat → ClassId) (ad0 : Nat → Nat) (A : Nat → Prop) (a0 : Nat) (a3 : Nat) (o0 : Nat) (o3 : Nat) (p0 : Int32) (p1 : Int32) (σ0 : cl_S) (r : Int32) (σ' : cl_S) (e0 : cl_at ad0 σ0 a0 o0) (e3 : cl_at ad0 σ0 a3 o3) (hF : cl_X0_daysBy o0 o3 σ0 p0 p1 = some (r, σ')) : cl_Ci l yX0_daysBy cX0_daysBy 6 .int ({ frames := 7, cells := 0, slots := 0, locals := 164 }) D dA ad0 A [.ref a0, .int p0, .int p1, .ref a3] σ0 r σ' := by
  refine cl_in RX0 rfl (by decide) (Nat.le_of_ble_eq_true rfl) ?_
  intro p e s m below meth c ls S hr hlocks hini hv hl
  have hx := S.1
  have hb := S.2.1
  have hown := S.2.2.2.1
  have hts := S.2.2.2.2
  obtain ⟨hN, hK, hP, hD, hA, hZ⟩ := hv
  have V : cl_V D dA (ad0, cl_n σ0) ad0 A s.heap σ0 s s.heap [] := ⟨hN, hK, hP, hD, va_S.rf, hA, hZ, fun _ _ => rfl, Nat.le_refl _⟩
  obtain ⟨ad, V, e0, e3⟩ : ∃ ad, cl_V D dA (ad0, cl_n σ0) ad A s.heap σ0 s s.heap [] ∧ cl_at ad σ0 a0 o0 ∧ cl_at ad σ0 a3 o3 := ⟨ad0, V, e0, e3⟩
  replace hl : lv_has ls 6 [(0, .ref a0), (1, .int p0), (2, .int p1), (3, .ref a3)] := hl
  unfold cl_X0_daysBy at hF
  have hL6 : ∀ (v1 : Int32) (v2 : Int32) (n : Nat) (v4 : Int32) (v5 : Int32) (σ : cl_S) (ad : Nat → Nat) (H : Heap) (locs : List Loc) (ls : Array Slot), dx_lp (fun x => cl_X0_daysBy_L6 o0 o3 x.2.2 v1 v2 x.1 x.2.1) n (v4, v5, σ) = some (r, σ') → cl_at ad σ a0 o0 → cl_at ad σ a3 o3 → cl_V D dA (ad0, cl_n σ0) ad A s.heap σ s H locs → lv_has ls 6 [(0, .ref a0), (1, .int v1), (2, .int v2), (3, .ref a3), (4, .int v4), (5, .int v5)] → W p l e ({ frames := 7, cells := 0, slots := 0, locals := 164 }) s m ([.ref a0, .int p0, .int p1, .ref a3] : List Value).toArray below meth c H locs 0 0 (MQ below (cl_Qi D dA ad0 A σ0 σ' r) ([.ref a0, .int p0, .int p1, .ref a3] : List Value).toArray s 0 0 A) (F0 m 6 ls []) := by
    intro v1 v2 n
    induction n with
    | zero =>
      intro v4 v5 σ ad H locs ls hF e0 e3 V hl
      exact (dx_lp_0 hF).elim
    | succ n ih6 =>
      intro v4 v5 σ ad H locs ls hF e0 e3 V hl
      obtain ⟨y6, hF, hz6⟩ := dx_lp_s hF
      replace hF : cl_X0_daysBy_L6 o0 o3 σ v1 v2 v4 v5 = some y6 := hF
      unfold cl_X0_daysBy_L6 at hF
      refine lv_iload hx hb dX0_daysBy_6 (lv_at hl 5 rfl) ?_
      refine lv_bipush (v := 31) hx hb dX0_daysBy_8 (by decide) ?_
      refine lv_icmp_ge (tgt := 56) hx hb dX0_daysBy_10 (by decide) (fun hc => ?_) (fun hc => ?_)
      · replace hF := (if_pos hc).symm.trans hF
        replace hF := dx_ex_k hF hz6
        refine lv_iload hx hb dX0_daysBy_56 (lv_at hl 4 rfl) ?_
        obtain ⟨hF1, hF2⟩ := dx_r2 hF
        subst hF1
        subst hF2
        exact cl_ri S V hr hlocks rfl dX0_daysBy_58
      · replace hF := (if_neg hc).symm.trans hF
        refine lv_aload_n hx hb dX0_daysBy_13 rfl (lv_at hl 0 rfl) ?_
        obtain ⟨hg, hF⟩ := dx_gd_some hF
        have k2 := of_decide_eq_true hg
        obtain ⟨r1, σ1, h1c, hF⟩ := dx_b2_some hF
        obtain ⟨hg, hF⟩ := dx_gd_some hF
        refine cl_cr (va_runV (As := []) S (cm_X0_asNow l D dA _ A a0 o0  σ _ _ e0 h1c) (cwV 0 hts (lw_V q1395 q1397 qs30 q77 q1398) rfl rfl rfl ⟨rfl, cd_X0_asNow⟩ ⟨Nat.le_of_ble_eq_true rfl, Nat.le_of_ble_eq_true rfl⟩) (cl_preV V [] e0 k2 rfl (by decide)) rfl rfl hl.1 rfl (lv_room (Nat.le_of_ble_eq_true rfl)) dX0_daysBy_14 ⟨Nat.le_of_ble_eq_true rfl, Nat.le_of_ble_eq_true rfl⟩) V (of_decide_eq_true hg) (fun bb1 ad _ _ hag hle ee1 V => ?_)
        replace e0 := e0.mv hag hle
        replace e3 := e3.mv hag hle
        obtain ⟨hg, hF⟩ := dx_gd_some hF
        have k3 := of_decide_eq_true hg
        obtain ⟨hg, hF⟩ := dx_gd_some hF
        refine cl_gr S V ee1 k3 rfl (by decide) in_X2 8 (by decide) rfl q183 rfl dX0_daysBy_17 (of_decide_eq_true hg) (fun bb4 ee4 => ?_)
        refine lv_iload_n hx hb dX0_daysBy_20 rfl (lv_at hl 2 rfl) ?_
        refine lv_iload hx hb dX0_daysBy_21 (lv_at hl 5 rfl) ?_
        obtain ⟨hg, hF⟩ := dx_gd_some hF
        have k5 := of_decide_eq_true hg
        obtain ⟨hg, hF⟩ := dx_gd_some hF
        refine cl_st S V ee4 k5 (dx_inb_in hg) dX0_daysBy_23 (fun _ _ V => ?_)
        refine lv_iload hx hb dX0_daysBy_24 (lv_at hl 4 rfl) ?_
        refine lv_aload_n hx hb dX0_daysBy_26 rfl (lv_at hl 0 rfl) ?_
        refine lv_aload_n hx hb dX0_daysBy_27 rfl (lv_at hl 0 rfl) ?_
        obtain ⟨hg, hF⟩ := dx_gd_some hF
        have k6 := of_decide_eq_true hg
        obtain ⟨hg, hF⟩ := dx_gd_some hF
        refine cl_gr S V e0 k6 rfl (by decide) in_X0 5 (by decide) rfl q273 rfl dX0_daysBy_28 (of_decide_eq_true hg) (fun bb7 ee7 => ?_)
        refine lv_iload_n hx hb dX0_daysBy_31 rfl (lv_at hl 1 rfl) ?_
        refine lv_aload_n hx hb dX0_daysBy_32 rfl (lv_at hl 3 rfl) ?_
        obtain ⟨r8, σ8, h8c, hF⟩ := dx_b2_some hF
        refine cl_ci (va_runV (As := [.ref bb7, .int v1, .ref a3]) S (cm_X0_isSo l D dA _ A a0 bb7 a3 o0 (cl_r (cl_wi σ1 (cl_r σ1 r1 8) v2.toNatClampNeg v5) o0 5) o3 v1 (cl_wi σ1 (cl_r σ1 r1 8) v2.toNatClampNeg v5) _ _ e0 ee7 e3 h8c) (cwV 3 hts (lw_V q1399 q1401 qs31 q77 q1402) rfl rfl rfl ⟨rfl, cd_X0_isSo⟩ ⟨Nat.le_of_ble_eq_true rfl, Nat.le_of_ble_eq_true rfl⟩) (cl_preV V [.ref bb7, .int v1, .ref a3] e0 k6 rfl (by decide)) rfl rfl hl.1 rfl (lv_room (Nat.le_of_ble_eq_true rfl)) dX0_daysBy_33 ⟨Nat.le_of_ble_eq_true rfl, Nat.le_of_ble_eq_true rfl⟩) V (fun ad _ _ hag hle V => ?_)
        replace e0 := e0.mv hag hle
        replace e3 := e3.mv hag hle
        refine lv_if_eq (tgt := 46) hx hb dX0_daysBy_36 (by decide) (fun hc => ?_) (fun hc => ?_)
        · replace hF := dx_ib_f (dx_bI_0 hc) hF
          refine lv_iconst (v := 0) hx hb dX0_daysBy_46 (by decide) ?_
          refine lv_ior hx hb dX0_daysBy_47 ?_
          refine lv_istore (lv' := [(4, .int (v4 ||| (0 : Int32))), (0, .ref a0), (1, .int v1), (2, .int v2), (3, .ref a3), (5, .int v5)]) hx hb dX0_daysBy_48 hl (by decide) rfl (fun ls hl => ?_)
          refine lv_iinc (v := (v5 + (1 : Int32))) (lv' := [(5, .int (v5 + (1 : Int32))), (4, .int (v4 ||| (0 : Int32))), (0, .ref a0), (1, .int v1), (2, .int v2), (3, .ref a3)]) hx hb dX0_daysBy_50 hl (k := 5) rfl rfl (by decide) rfl (fun ls hl => ?_)
          refine lv_goto (tgt := 6) hx hb dX0_daysBy_53 (by decide) ?_
          replace hF := Option.some.inj hF
          subst hF
          exact ih6 (v4 ||| (0 : Int32)) (v5 + (1 : Int32)) σ8 _ _ _ _ (dx_lk_l hz6) e0 e3 V (lv_sub hl [2, 3, 4, 5, 1, 0] rfl)
        · replace hF := dx_ib_t (dx_bI_n hc) hF
          refine lv_iconst (v := 1) hx hb dX0_daysBy_39 (by decide) ?_
          refine lv_iload hx hb dX0_daysBy_40 (lv_at hl 5 rfl) ?_
          refine lv_ishl hx hb dX0_daysBy_42 ?_
          refine lv_goto (tgt := 47) hx hb dX0_daysBy_43 (by decide) ?_
          refine lv_ior hx hb dX0_daysBy_47 ?_
          refine lv_istore (lv' := [(4, .int (v4 ||| ((1 : Int32) <<< (v5 &&& 31)))), (0, .ref a0), (1, .int v1), (2, .int v2), (3, .ref a3), (5, .int v5)]) hx hb dX0_daysBy_48 hl (by decide) rfl (fun ls hl => ?_)
          refine lv_iinc (v := (v5 + (1 : Int32))) (lv' := [(5, .int (v5 + (1 : Int32))), (4, .int (v4 ||| ((1 : Int32) <<< (v5 &&& 31)))), (0, .ref a0), (1, .int v1), (2, .int v2), (3, .ref a3)]) hx hb dX0_daysBy_50 hl (k := 5) rfl rfl (by decide) rfl (fun ls hl => ?_)
          refine lv_goto (tgt := 6) hx hb dX0_daysBy_53 (by decide) ?_
          replace hF := Option.some.inj hF
          subst hF
          exact ih6 (v4 ||| ((1 : Int32) <<< (v5 &&& 31))) (v5 + (1 : Int32)) σ8 _ _ _ _ (dx_lk_l hz6) e0 e3 V (lv_sub hl [2, 3, 4, 5, 1, 0] rfl)
  refine lv_iconst (v := 0) hx hb dX0_daysBy_0 (by decide) ?_
  refine lv_istore (lv' := [(4, .int (0 : Int32)), (0, .ref a0), (1, .int p0), (2, .int p1), (3, .ref a3)]) hx hb dX0_daysBy_1 hl (by decide) rfl (fun ls hl => ?_)
  refine lv_iconst (v := 0) hx hb dX0_daysBy_3 (by decide) ?_
  refine lv_istore (lv' := [(5, .int (0 : Int32)), (4, .int (0 : Int32)), (0, .ref a0), (1, .int p0), (2, .int p1), (3, .ref a3)]) hx hb dX0_daysBy_4 hl (by decide) rfl (fun ls hl => ?_)
  exact hL6 p0 p1 dx_fu (0 : Int32) (0 : Int32) σ0 _ _ _ _ hF e0 e3 V (lv_sub hl [2, 3, 4, 5, 1, 0] rfl)
theorem cd_X0_kindsBy : yX0_kindsBy.cls ≠ "java/lang/invoke/MethodHandle" ∧ yX0_kindsBy.cls ≠ "java/lang/invoke/VarHandle" ∧ (parseMethodDescriptor yX0_kindsBy.desc).map (fun d => d.parameters.length) = some 3 := by decide +kernel
set_option maxHeartbeats 4000000 in
set_option maxRecDepth 100000 in
theorem cm_X0_kindsBy (l : Launch) (D : va_G) (dA : Nat → ClassId) (ad0 : Nat → Nat) (A : Nat → Prop) (a0 : Nat) (a3 : Nat) (o0 : Nat) (o3 : Nat) (p0 : Int32) (p1 : Int32) (σ0 : cl_S) (r : Int32) (σ' : cl_S) (e0 : cl_at ad0 σ0 a0 o0) (e3 : cl_at ad0 σ0 a3 o3) (hF : cl_X0_kindsBy o0 o3 σ0 p0 p1 = some (r, σ')) : cl_Ci l yX0_kindsBy cX0_kindsBy 6 .int ({ frames := 7, cells := 72, slots := 138, locals := 164 }) D dA ad0 A [.ref a0, .int p0, .int p1, .ref a3] σ0 r σ' := by
  refine cl_in RX0 rfl (by decide) (Nat.le_of_ble_eq_true rfl) ?_
  intro p e s m below meth c ls S hr hlocks hini hv hl
  have hx := S.1
  have hb := S.2.1
  have hown := S.2.2.2.1
  have hts := S.2.2.2.2
  obtain ⟨hN, hK, hP, hD, hA, hZ⟩ := hv
  have V : cl_V D dA (ad0, cl_n σ0) ad0 A s.heap σ0 s s.heap [] := ⟨hN, hK, hP, hD, va_S.rf, hA, hZ, fun _ _ => rfl, Nat.le_refl _⟩
  obtain ⟨ad, V, e0, e3⟩ : ∃ ad, cl_V D dA (ad0, cl_n σ0) ad A s.heap σ0 s s.heap [] ∧ cl_at ad σ0 a0 o0 ∧ cl_at ad σ0 a3 o3 := ⟨ad0, V, e0, e3⟩
  replace hl : lv_has ls 6 [(0, .ref a0), (1, .int p0), (2, .int p1), (3, .ref a3)] := hl
  unfold cl_X0_kindsBy at hF
  have hL6 : ∀ (v1 : Int32) (v2 : Int32) (n : Nat) (v4 : Int32) (v5 : Int32) (σ : cl_S) (ad : Nat → Nat) (hn : n ≤ 6) (H : Heap) (locs : List Loc) (ls : Array Slot), dx_lp (fun x => cl_X0_kindsBy_L6 o0 o3 x.2.2 v1 v2 x.1 x.2.1) n (v4, v5, σ) = some (r, σ') → cl_at ad σ a0 o0 → cl_at ad σ a3 o3 → cl_V D dA (ad0, cl_n σ0) ad A s.heap σ s H locs → lv_has ls 6 [(0, .ref a0), (1, .int v1), (2, .int v2), (3, .ref a3), (4, .int v4), (5, .int v5)] → W p l e ({ frames := 7, cells := 72, slots := 138, locals := 164 }) s m ([.ref a0, .int p0, .int p1, .ref a3] : List Value).toArray below meth c H locs (0 + 12 * (6 - n)) (0 + 23 * (6 - n)) (MQ below (cl_Qi D dA ad0 A σ0 σ' r) ([.ref a0, .int p0, .int p1, .ref a3] : List Value).toArray s 72 138 A) (F0 m 6 ls []) := by
    intro v1 v2 n
    induction n with
    | zero =>
      intro v4 v5 σ ad hn H locs ls hF e0 e3 V hl
      exact (dx_lp_0 hF).elim
    | succ n ih6 =>
      intro v4 v5 σ ad hn H locs ls hF e0 e3 V hl
      obtain ⟨y6, hF, hz6⟩ := dx_lp_s hF
      replace hF : cl_X0_kindsBy_L6 o0 o3 σ v1 v2 v4 v5 = some y6 := hF
      unfold cl_X0_kindsBy_L6 at hF
      refine lv_iload hx hb dX0_kindsBy_6 (lv_at hl 5 rfl) ?_
      refine lv_iconst (v := 5) hx hb dX0_kindsBy_8 (by decide) ?_
      refine lv_icmp_gt (tgt := 62) hx hb dX0_kindsBy_9 (by decide) (fun hc => ?_) (fun hc => ?_)
      · replace hF := (if_pos hc).symm.trans hF
        replace hF := dx_ex_k hF hz6
        refine W.widen (k := 72) (n := 138) (by first | omega | (dsimp only; omega)) (by first | omega | (dsimp only; omega)) ?_
        refine lv_iload hx hb dX0_kindsBy_62 (lv_at hl 4 rfl) ?_
        refine W.widen (k := 72) (n := 138) (by first | omega | (dsimp only; omega)) (by first | omega | (dsimp only; omega)) ?_
        obtain ⟨hF1, hF2⟩ := dx_r2 hF
        subst hF1
        subst hF2
        exact cl_ri S V hr hlocks rfl dX0_kindsBy_64
      · replace hF := (if_neg hc).symm.trans hF
        refine lv_aload_n hx hb dX0_kindsBy_12 rfl (lv_at hl 0 rfl) ?_
        obtain ⟨hg, hF⟩ := dx_gd_some hF
        have k2 := of_decide_eq_true hg
        obtain ⟨r1, σ1, h1c, hF⟩ := dx_b2_some hF
        obtain ⟨hg, hF⟩ := dx_gd_some hF
        refine cl_cr (va_runV (As := []) S (cm_X0_asNow l D dA _ A a0 o0  σ _ _ e0 h1c) (cwV 0 hts (lw_V q1395 q1397 qs30 q77 q1398) rfl rfl rfl ⟨rfl, cd_X0_asNow⟩ ⟨Nat.le_of_ble_eq_true rfl, Nat.le_of_ble_eq_true rfl⟩) (cl_preV V [] e0 k2 rfl (by decide)) rfl rfl hl.1 rfl (lv_room (Nat.le_of_ble_eq_true rfl)) dX0_kindsBy_13 ⟨by show _ ≤ 72; first | omega | (dsimp only; omega), by show _ ≤ 138; first | omega | (dsimp only; omega)⟩) V (of_decide_eq_true hg) (fun bb1 ad _ _ hag hle ee1 V => ?_)
        replace e0 := e0.mv hag hle
        replace e3 := e3.mv hag hle
        obtain ⟨hg, hF⟩ := dx_gd_some hF
        have k3 := of_decide_eq_true hg
        obtain ⟨hg, hF⟩ := dx_gd_some hF
        refine cl_gr S V ee1 k3 rfl (by decide) in_X2 4 (by decide) rfl q166 rfl dX0_kindsBy_16 (of_decide_eq_true hg) (fun bb4 ee4 => ?_)
        refine lv_iload_n hx hb dX0_kindsBy_19 rfl (lv_at hl 2 rfl) ?_
        refine lv_iload hx hb dX0_kindsBy_20 (lv_at hl 5 rfl) ?_
        refine lv_iload_n hx hb dX0_kindsBy_22 rfl (lv_at hl 2 rfl) ?_
        obtain ⟨r5, σ5, h5c, hF⟩ := dx_b2_some hF
        obtain ⟨hg, hF⟩ := dx_gd_some hF
        refine cl_cr (va_runS (As := [.int v5, .int v2]) S (cm_X0_personBy l D dA _ A   v5 v2 σ1 _ _  h5c) (va_cwS 2 hts (lw_S q1121 q926 q77 q927) rfl rfl rfl cd_X0_personBy ⟨Nat.le_of_ble_eq_true rfl, Nat.le_of_ble_eq_true rfl⟩) (cl_preS V [.int v5, .int v2]) rfl rfl hl.1 rfl (lv_room (Nat.le_of_ble_eq_true rfl)) dX0_kindsBy_23 ⟨by show _ ≤ 72; first | omega | (dsimp only; omega), by show _ ≤ 138; first | omega | (dsimp only; omega)⟩) V (of_decide_eq_true hg) (fun bb5 ad _ _ hag hle ee5 V => ?_)
        replace ee4 := ee4.mv hag hle
        replace e0 := e0.mv hag hle
        replace e3 := e3.mv hag hle
        obtain ⟨hg, hF⟩ := dx_gd_some hF
        have k6 := of_decide_eq_true hg
        obtain ⟨hi7, hF⟩ := dx_gd_some hF
        obtain ⟨hg, hF⟩ := dx_gd_some hF
        have k8 := of_decide_eq_true hg
        refine cl_sa 4 25 S V ee4 k6 (by decide) rfl (dx_inb_in hi7) ee5 (cl_anyP V ee5 k8) dX0_kindsBy_26 (fun _ _ V => ?_)
        refine lv_iload hx hb dX0_kindsBy_27 (lv_at hl 4 rfl) ?_
        refine lv_aload_n hx hb dX0_kindsBy_29 rfl (lv_at hl 0 rfl) ?_
        refine lv_aload_n hx hb dX0_kindsBy_30 rfl (lv_at hl 0 rfl) ?_
        obtain ⟨hg, hF⟩ := dx_gd_some hF
        have k9 := of_decide_eq_true hg
        obtain ⟨hg, hF⟩ := dx_gd_some hF
        refine cl_gr S V e0 k9 rfl (by decide) in_X0 5 (by decide) rfl q273 rfl dX0_kindsBy_31 (of_decide_eq_true hg) (fun bb10 ee10 => ?_)
        obtain ⟨hg, hF⟩ := dx_gd_some hF
        have k12 := of_decide_eq_true hg
        obtain ⟨r11, σ11, h11c, hF⟩ := dx_b2_some hF
        obtain ⟨hg, hF⟩ := dx_gd_some hF
        refine cl_cr (va_runV (As := []) S (cm_X2_stirred l D dA _ A bb10 (cl_r (cl_wr σ5 (cl_r σ1 r1 4) v2.toNatClampNeg r5) o0 5)  (cl_wr σ5 (cl_r σ1 r1 4) v2.toNatClampNeg r5) _ _ ee10 h11c) (cwV 0 hts (lw_V q982 q983 q984 q79 q985) rfl rfl rfl ⟨rfl, cd_X2_stirred⟩ ⟨Nat.le_of_ble_eq_true rfl, Nat.le_of_ble_eq_true rfl⟩) (cl_preV V [] ee10 k12 rfl (by decide)) rfl rfl hl.1 rfl (lv_room (Nat.le_of_ble_eq_true rfl)) dX0_kindsBy_34 ⟨by show _ ≤ 72; first | omega | (dsimp only; omega), by show _ ≤ 138; first | omega | (dsimp only; omega)⟩) V (of_decide_eq_true hg) (fun bb11 ad _ _ hag hle ee11 V => ?_)
        replace e0 := e0.mv hag hle
        replace e3 := e3.mv hag hle
        refine lv_iload_n hx hb dX0_kindsBy_37 rfl (lv_at hl 1 rfl) ?_
        refine lv_aload_n hx hb dX0_kindsBy_38 rfl (lv_at hl 3 rfl) ?_
        obtain ⟨hg, hF⟩ := dx_gd_some hF
        have k14 := of_decide_eq_true hg
        obtain ⟨r13, σ13, h13c, hF⟩ := dx_b2_some hF
        refine cl_ci (va_runV (As := [.ref bb11, .int v1, .ref a3]) S (cm_X0_isSo l D dA _ A a0 bb11 a3 o0 r11 o3 v1 σ11 _ _ e0 ee11 e3 h13c) (cwV 3 hts (lw_V q1399 q1401 qs31 q77 q1402) rfl rfl rfl ⟨rfl, cd_X0_isSo⟩ ⟨Nat.le_of_ble_eq_true rfl, Nat.le_of_ble_eq_true rfl⟩) (cl_preV V [.ref bb11, .int v1, .ref a3] e0 k14 rfl (by decide)) rfl rfl hl.1 rfl (lv_room (Nat.le_of_ble_eq_true rfl)) dX0_kindsBy_39 ⟨by show _ ≤ 72; first | omega | (dsimp only; omega), by show _ ≤ 138; first | omega | (dsimp only; omega)⟩) V (fun ad _ _ hag hle V => ?_)
        replace e0 := e0.mv hag hle
        replace e3 := e3.mv hag hle
        refine lv_if_eq (tgt := 52) hx hb dX0_kindsBy_42 (by decide) (fun hc => ?_) (fun hc => ?_)
        · replace hF := dx_ib_f (dx_bI_0 hc) hF
          refine lv_iconst (v := 0) hx hb dX0_kindsBy_52 (by decide) ?_
          refine lv_ior hx hb dX0_kindsBy_53 ?_
          refine lv_istore (lv' := [(4, .int (v4 ||| (0 : Int32))), (0, .ref a0), (1, .int v1), (2, .int v2), (3, .ref a3), (5, .int v5)]) hx hb dX0_kindsBy_54 hl (by decide) rfl (fun ls hl => ?_)
          refine lv_iinc (v := (v5 + (1 : Int32))) (lv' := [(5, .int (v5 + (1 : Int32))), (4, .int (v4 ||| (0 : Int32))), (0, .ref a0), (1, .int v1), (2, .int v2), (3, .ref a3)]) hx hb dX0_kindsBy_56 hl (k := 5) rfl rfl (by decide) rfl (fun ls hl => ?_)
          refine lv_goto (tgt := 6) hx hb dX0_kindsBy_59 (by decide) ?_
          refine W.widen (k := 0 + 12 * (6 - n)) (n := 0 + 23 * (6 - n)) (by first | omega | (dsimp only; omega)) (by first | omega | (dsimp only; omega)) ?_
          replace hF := Option.some.inj hF
          subst hF
          exact ih6 (v4 ||| (0 : Int32)) (v5 + (1 : Int32)) σ13 _ (by omega) _ _ _ (dx_lk_l hz6) e0 e3 V (lv_sub hl [2, 3, 4, 5, 1, 0] rfl)
        · replace hF := dx_ib_t (dx_bI_n hc) hF
          refine lv_iconst (v := 1) hx hb dX0_kindsBy_45 (by decide) ?_
          refine lv_iload hx hb dX0_kindsBy_46 (lv_at hl 5 rfl) ?_
          refine lv_ishl hx hb dX0_kindsBy_48 ?_
          refine lv_goto (tgt := 53) hx hb dX0_kindsBy_49 (by decide) ?_
          refine lv_ior hx hb dX0_kindsBy_53 ?_
          refine lv_istore (lv' := [(4, .int (v4 ||| ((1 : Int32) <<< (v5 &&& 31)))), (0, .ref a0), (1, .int v1), (2, .int v2), (3, .ref a3), (5, .int v5)]) hx hb dX0_kindsBy_54 hl (by decide) rfl (fun ls hl => ?_)
          refine lv_iinc (v := (v5 + (1 : Int32))) (lv' := [(5, .int (v5 + (1 : Int32))), (4, .int (v4 ||| ((1 : Int32) <<< (v5 &&& 31)))), (0, .ref a0), (1, .int v1), (2, .int v2), (3, .ref a3)]) hx hb dX0_kindsBy_56 hl (k := 5) rfl rfl (by decide) rfl (fun ls hl => ?_)
          refine lv_goto (tgt := 6) hx hb dX0_kindsBy_59 (by decide) ?_
          refine W.widen (k := 0 + 12 * (6 - n)) (n := 0 + 23 * (6 - n)) (by first | omega | (dsimp only; omega)) (by first | omega | (dsimp only; omega)) ?_
          replace hF := Option.some.inj hF
          subst hF
          exact ih6 (v4 ||| ((1 : Int32) <<< (v5 &&& 31))) (v5 + (1 : Int32)) σ13 _ (by omega) _ _ _ (dx_lk_l hz6) e0 e3 V (lv_sub hl [2, 3, 4, 5, 1, 0] rfl)
  refine lv_iconst (v := 0) hx hb dX0_kindsBy_0 (by decide) ?_
  refine lv_istore (lv' := [(4, .int (0 : Int32)), (0, .ref a0), (1, .int p0), (2, .int p1), (3, .ref a3)]) hx hb dX0_kindsBy_1 hl (by decide) rfl (fun ls hl => ?_)
  refine lv_iconst (v := 1) hx hb dX0_kindsBy_3 (by decide) ?_
  refine lv_istore (lv' := [(5, .int (1 : Int32)), (4, .int (0 : Int32)), (0, .ref a0), (1, .int p0), (2, .int p1), (3, .ref a3)]) hx hb dX0_kindsBy_4 hl (by decide) rfl (fun ls hl => ?_)
  refine W.widen (k := 0 + 12 * (6 - 6)) (n := 0 + 23 * (6 - 6)) (by first | omega | (dsimp only; omega)) (by first | omega | (dsimp only; omega)) ?_
  exact hL6 p0 p1 6 (0 : Int32) (1 : Int32) σ0 _ (by omega) _ _ _ hF e0 e3 V (lv_sub hl [2, 3, 4, 5, 1, 0] rfl)
theorem cd_X0_fits : yX0_fits.cls ≠ "java/lang/invoke/MethodHandle" ∧ yX0_fits.cls ≠ "java/lang/invoke/VarHandle" ∧ (parseMethodDescriptor yX0_fits.desc).map (fun d => d.parameters.length) = some 5 := by decide +kernel
set_option maxHeartbeats 4000000 in
set_option maxRecDepth 100000 in
theorem cm_X0_fits (l : Launch) (hlt : l.stackTraces = false) (D : va_G) (dA : Nat → ClassId) (ad0 : Nat → Nat) (A : Nat → Prop) (a0 : Nat) (o0 : Nat) (p0 : Int32) (p1 : Int32) (p2 : Int32) (p3 : Int32) (p4 : Int32) (σ0 : cl_S) (r : Int32) (σ' : cl_S) (e0 : cl_at ad0 σ0 a0 o0) (hF : cl_X0_fits o0 σ0 p0 p1 p2 p3 p4 = some (r, σ')) : cx_Hi l yX0_fits cX0_fits 7 .int [(46, 116, 117, 131), (46, 116, 125, 133)] ({ frames := 11, cells := 112, slots := 268, locals := 10294 }) D dA ad0 A [.ref a0, .int p0, .int p1, .int p2, .int p3, .int p4] σ0 r σ' := by
  refine cx_inH RX0 rfl (by decide) (Nat.le_of_ble_eq_true rfl) ?_
  intro p e s m below meth c ls S hr hlocks hini htab hv hl
  have hx := S.1
  have hb := S.2.1
  have hown := S.2.2.2.1
  have hts := S.2.2.2.2
  obtain ⟨hN, hK, hP, hD, hA, hZ⟩ := hv
  have V : cl_V D dA (ad0, cl_n σ0) ad0 A s.heap σ0 s s.heap [] := ⟨hN, hK, hP, hD, va_S.rf, hA, hZ, fun _ _ => rfl, Nat.le_refl _⟩
  obtain ⟨ad, V, e0⟩ : ∃ ad, cl_V D dA (ad0, cl_n σ0) ad A s.heap σ0 s s.heap [] ∧ cl_at ad σ0 a0 o0 := ⟨ad0, V, e0⟩
  replace hl : lv_has ls 7 [(0, .ref a0), (1, .int p0), (2, .int p1), (3, .int p2), (4, .int p3), (5, .int p4)] := hl
  unfold cl_X0_fits at hF
  have hJ113 : ∀ (σ : cl_S) (t1 : Int32) (ad : Nat → Nat) (H : Heap) (locs : List Loc) (ls : Array Slot), cl_X0_fits_J113 o0 σ t1 = some (r, σ') → cl_at ad σ a0 o0 → cl_V D dA (ad0, cl_n σ0) ad A s.heap σ s H locs → lv_has ls 7 [] → W p l e ({ frames := 11, cells := 112, slots := 268, locals := 10294 }) s m ([.ref a0, .int p0, .int p1, .int p2, .int p3, .int p4] : List Value).toArray below meth c H locs 112 268 (vx_MQ below (cl_Qi D dA ad0 A σ0 σ' r) cx_No ([.ref a0, .int p0, .int p1, .int p2, .int p3, .int p4] : List Value).toArray s 112 268 A) (F0 m 113 ls [.int t1, .ref a0]) := by
    intro σ t1 ad H locs ls hF e0 V hl
    unfold cl_X0_fits_J113 at hF
    obtain ⟨hg, hF⟩ := dx_gd_some hF
    have k16 := of_decide_eq_true hg
    obtain ⟨r15, σ15, h15c, hF⟩ := dx_b2_some hF
    refine cl_ci (va_runV (As := [.int t1]) S (cm_X0_well l D dA _ A a0 o0 t1 σ _ _ e0 h15c) (cwV 1 hts (lw_V q410 q412 qs2 q77 q413) rfl rfl rfl ⟨rfl, cd_X0_well⟩ ⟨Nat.le_of_ble_eq_true rfl, Nat.le_of_ble_eq_true rfl⟩) (cl_preV V [.int t1] e0 k16 rfl (by decide)) rfl rfl hl.1 rfl (lv_room (Nat.le_of_ble_eq_true rfl)) dX0_fits_113 ⟨Nat.le_of_ble_eq_true rfl, Nat.le_of_ble_eq_true rfl⟩) V (fun ad _ _ hag hle V => ?_)
    refine W.widen (k := 112) (n := 268) (by first | omega | (dsimp only; omega)) (by first | omega | (dsimp only; omega)) ?_
    obtain ⟨hF1, hF2⟩ := dx_r2 hF
    subst hF1
    subst hF2
    exact vx_ret (cl_ri S V hr hlocks rfl dX0_fits_116)
  refine lv_aload_n hx hb dX0_fits_0 rfl (lv_at hl 0 rfl) ?_
  refine lv_iload_n hx hb dX0_fits_1 rfl (lv_at hl 1 rfl) ?_
  obtain ⟨hg, hF⟩ := dx_gd_some hF
  have k2 := of_decide_eq_true hg
  obtain ⟨r1, h1c, hF⟩ := dx_b1_some hF
  refine cl_ci (va_runV (As := [.int p0]) S (cm_X0_isPerson l D dA _ A a0 o0 p0 σ0 _ e0 h1c) (cwV 1 hts (lw_V q1059 q1061 qs17 q77 q1062) rfl rfl rfl ⟨rfl, cd_X0_isPerson⟩ ⟨Nat.le_of_ble_eq_true rfl, Nat.le_of_ble_eq_true rfl⟩) (cl_preV V [.int p0] e0 k2 rfl (by decide)) rfl rfl hl.1 rfl (lv_room (Nat.le_of_ble_eq_true rfl)) dX0_fits_2 ⟨Nat.le_of_ble_eq_true rfl, Nat.le_of_ble_eq_true rfl⟩) V (fun ad _ _ hag hle V => ?_)
  replace e0 := e0.mv hag hle
  refine lv_if_eq (tgt := 43) hx hb dX0_fits_5 (by decide) (fun hc => ?_) (fun hc => ?_)
  · replace hF := dx_ib_f (dx_bI_0 hc) hF
    refine lv_ldc hx hb hown (hts _ q406) dX0_fits_43 ?_
    refine W.widen (k := 112) (n := 268) (by first | omega | (dsimp only; omega)) (by first | omega | (dsimp only; omega)) ?_
    obtain ⟨hF1, hF2⟩ := dx_r2 hF
    subst hF1
    subst hF2
    exact vx_ret (cl_ri S V hr hlocks rfl dX0_fits_45)
  · replace hF := dx_ib_t (dx_bI_n hc) hF
    refine lv_aload_n hx hb dX0_fits_8 rfl (lv_at hl 0 rfl) ?_
    refine lv_iload_n hx hb dX0_fits_9 rfl (lv_at hl 2 rfl) ?_
    refine lv_iload hx hb dX0_fits_10 (lv_at hl 5 rfl) ?_
    obtain ⟨r3, h3c, hF⟩ := dx_b1_some hF
    refine cl_ci (va_runV (As := [.int p1, .int p4]) S (cm_X0_isFor l D dA _ A a0 o0 p1 p4 σ0 _ e0 h3c) (cwV 2 hts (lw_V q1374 q1376 qs27 q77 q1377) rfl rfl rfl ⟨rfl, cd_X0_isFor⟩ ⟨Nat.le_of_ble_eq_true rfl, Nat.le_of_ble_eq_true rfl⟩) (cl_preV V [.int p1, .int p4] e0 k2 rfl (by decide)) rfl rfl hl.1 rfl (lv_room (Nat.le_of_ble_eq_true rfl)) dX0_fits_12 ⟨Nat.le_of_ble_eq_true rfl, Nat.le_of_ble_eq_true rfl⟩) V (fun ad _ _ hag hle V => ?_)
    replace e0 := e0.mv hag hle
    refine lv_if_eq (tgt := 43) hx hb dX0_fits_15 (by decide) (fun hc => ?_) (fun hc => ?_)
    · replace hF := dx_ib_f (dx_bI_0 hc) hF
      refine lv_ldc hx hb hown (hts _ q406) dX0_fits_43 ?_
      refine W.widen (k := 112) (n := 268) (by first | omega | (dsimp only; omega)) (by first | omega | (dsimp only; omega)) ?_
      obtain ⟨hF1, hF2⟩ := dx_r2 hF
      subst hF1
      subst hF2
      exact vx_ret (cl_ri S V hr hlocks rfl dX0_fits_45)
    · replace hF := dx_ib_t (dx_bI_n hc) hF
      refine lv_iload_n hx hb dX0_fits_18 rfl (lv_at hl 3 rfl) ?_
      obtain ⟨r4, h4c, hF⟩ := dx_b1_some hF
      refine dx_cPi S [.int p2] (cm_X0_isRow l p2 _ h4c) (va_cwS 1 hts (lw_S q398 q399 q77 q400) rfl rfl rfl cd_X0_isRow ⟨Nat.le_of_ble_eq_true rfl, Nat.le_of_ble_eq_true rfl⟩) rfl rfl hl.1 (Nat.le_of_ble_eq_true rfl) dX0_fits_19 ⟨Nat.le_of_ble_eq_true rfl, Nat.le_of_ble_eq_true rfl⟩ ?_
      refine lv_if_eq (tgt := 43) hx hb dX0_fits_22 (by decide) (fun hc => ?_) (fun hc => ?_)
      · replace hF := dx_ib_f (dx_bI_0 hc) hF
        refine lv_ldc hx hb hown (hts _ q406) dX0_fits_43 ?_
        refine W.widen (k := 112) (n := 268) (by first | omega | (dsimp only; omega)) (by first | omega | (dsimp only; omega)) ?_
        obtain ⟨hF1, hF2⟩ := dx_r2 hF
        subst hF1
        subst hF2
        exact vx_ret (cl_ri S V hr hlocks rfl dX0_fits_45)
      · replace hF := dx_ib_t (dx_bI_n hc) hF
        refine lv_iload hx hb dX0_fits_25 (lv_at hl 4 rfl) ?_
        refine lv_i2l hx hb dX0_fits_27 rfl ?_
        refine lv_lconst (v := 1) hx hb dX0_fits_28 (by decide) ?_
        refine lv_aload_n hx hb dX0_fits_29 rfl (lv_at hl 0 rfl) ?_
        obtain ⟨hg, hF⟩ := dx_gd_some hF
        refine cl_gr S V e0 k2 rfl (by decide) in_X0 4 (by decide) rfl q272 rfl dX0_fits_30 (of_decide_eq_true hg) (fun bb5 ee5 => ?_)
        obtain ⟨hg, hF⟩ := dx_gd_some hF
        have k6 := of_decide_eq_true hg
        refine cl_gi S V ee5 k6 rfl (by decide) in_X2 0 (by decide) rfl q152 rfl dX0_fits_33 ?_
        refine lv_i2l hx hb dX0_fits_36 rfl ?_
        obtain ⟨r7, h7c, hF⟩ := dx_b1_some hF
        refine dx_cPi S [.long p3.toInt64, .long (1 : Int64), .long ((cl_i σ0 (cl_r σ0 o0 4) 0).toInt64)] (cm_X0_isIn l p3.toInt64 (1 : Int64) ((cl_i σ0 (cl_r σ0 o0 4) 0).toInt64) _ h7c) (va_cwS 3 hts (lw_S q402 q403 q77 q404) rfl rfl rfl cd_X0_isIn ⟨Nat.le_of_ble_eq_true rfl, Nat.le_of_ble_eq_true rfl⟩) rfl rfl hl.1 (Nat.le_of_ble_eq_true rfl) dX0_fits_37 ⟨Nat.le_of_ble_eq_true rfl, Nat.le_of_ble_eq_true rfl⟩ ?_
        refine lv_if_ne (tgt := 46) hx hb dX0_fits_40 (by decide) (fun hc => ?_) (fun hc => ?_)
        · replace hF := dx_ib_t (dx_bI_n hc) hF
          refine lv_aload_n hx hb dX0_fits_46 rfl (lv_at hl 0 rfl) ?_
          refine lv_iload_n hx hb dX0_fits_47 rfl (lv_at hl 3 rfl) ?_
          refine lv_iconst (v := 0) hx hb dX0_fits_48 (by decide) ?_
          refine lv_iload hx hb dX0_fits_49 (lv_at hl 4 rfl) ?_
          obtain ⟨z8, σ8, h8c, hF⟩ := dx_bx_some hF
          refine cx_cr (vx_runV (As := [.int p2, .int (0 : Int32), .int p3]) S (cm_X0_items l hlt D dA _ A a0 o0 p2 (0 : Int32) p3 σ0 _ _ e0 h8c) (cwV 3 hts (lw_V q1378 q1380 qs28 q77 q1381) rfl rfl rfl ⟨rfl, cd_X0_items⟩ ⟨Nat.le_of_ble_eq_true rfl, Nat.le_of_ble_eq_true rfl⟩) (cl_preV V [.int p2, .int (0 : Int32), .int p3] e0 k2 rfl (by decide)) rfl rfl hl.1 rfl (lv_room (Nat.le_of_ble_eq_true rfl)) dX0_fits_51 ⟨Nat.le_of_ble_eq_true rfl, Nat.le_of_ble_eq_true rfl⟩) V (dx_xs_nz hF) (fun x8 ce q9 ad _ _ hz hag hle hq9 V hce hcv hcl => ?_) (fun r8 bb8 ad _ _ hz hag hle ee8 V => ?_)
          · subst hz
            replace hF := dx_xs_r hF
            replace e0 := e0.mv hag hle
            by_cases hc : x8 = 1
            · replace hF := (if_pos hc).symm.trans hF
              subst hc
              refine vx_catch (E := "java/lang/NullPointerException") (name := "java/lang/NullPointerException") hown [] ⟨46, 116, 117, 131⟩ [⟨46, 116, 125, 133⟩] (by rw [htab]; rfl) (fun z h => nomatch h) rfl (by decide) (hts _ q424) (va_Nw.use rfl (V.1.1 _ cn_q446)) hce hcv hcl ?_
              refine lv_astore (lv' := [(6, .ref q9), (0, .ref a0), (1, .int p0), (2, .int p1), (3, .int p2), (4, .int p3), (5, .int p4)]) hx hb dX0_fits_117 hl (by decide) rfl (fun ls hl => ?_)
              refine lv_aload_n hx hb dX0_fits_119 rfl (lv_at hl 1 rfl) ?_
              refine lv_iconst (v := 1) hx hb dX0_fits_120 (by decide) ?_
              obtain ⟨hg, hF⟩ := dx_gd_some hF
              have k10 := of_decide_eq_true hg
              obtain ⟨r9, σ9, h9c, hF⟩ := dx_b2_some hF
              refine cl_ci (va_runV (As := [.int (1 : Int32)]) S (cm_X0_found l D dA _ A a0 o0 (1 : Int32) σ8 _ _ e0 h9c) (cwV 1 hts (lw_V q414 q416 qs3 q77 q417) rfl rfl rfl ⟨rfl, cd_X0_found⟩ ⟨Nat.le_of_ble_eq_true rfl, Nat.le_of_ble_eq_true rfl⟩) (cl_preV V [.int (1 : Int32)] e0 k10 rfl (by decide)) rfl rfl hl.1 rfl (lv_room (Nat.le_of_ble_eq_true rfl)) dX0_fits_121 ⟨Nat.le_of_ble_eq_true rfl, Nat.le_of_ble_eq_true rfl⟩) V (fun ad _ _ hag hle V => ?_)
              replace e0 := e0.mv hag hle
              refine W.widen (k := 112) (n := 268) (by first | omega | (dsimp only; omega)) (by first | omega | (dsimp only; omega)) ?_
              obtain ⟨hF1, hF2⟩ := dx_r2 hF
              subst hF1
              subst hF2
              exact vx_ret (cl_ri S V hr hlocks rfl dX0_fits_124)
            replace hF := (if_neg hc).symm.trans hF
            clear hc
            by_cases hc : x8 = 2
            · replace hF := (if_pos hc).symm.trans hF
              subst hc
              refine vx_catch (E := "java/lang/ArrayIndexOutOfBoundsException") (name := "java/lang/ArrayIndexOutOfBoundsException") hown [⟨46, 116, 117, 131⟩] ⟨46, 116, 125, 133⟩ [] (by rw [htab]; rfl) (List.forall_mem_cons.mpr ⟨Or.inr ⟨by decide, _, hts _ q424, V.1.2.2.2.2.2.2.1.2.2.1 _ nc_3⟩, fun z h => nomatch h⟩) rfl (by decide) (hts _ q449) (va_Nw.use rfl (V.1.1 _ cn_q464)) hce hcv hcl ?_
              refine lv_astore (lv' := [(6, .ref q9), (0, .ref a0), (1, .int p0), (2, .int p1), (3, .int p2), (4, .int p3), (5, .int p4)]) hx hb dX0_fits_125 hl (by decide) rfl (fun ls hl => ?_)
              refine lv_aload_n hx hb dX0_fits_127 rfl (lv_at hl 1 rfl) ?_
              refine lv_iconst (v := 2) hx hb dX0_fits_128 (by decide) ?_
              obtain ⟨hg, hF⟩ := dx_gd_some hF
              have k12 := of_decide_eq_true hg
              obtain ⟨r11, σ11, h11c, hF⟩ := dx_b2_some hF
              refine cl_ci (va_runV (As := [.int (2 : Int32)]) S (cm_X0_found l D dA _ A a0 o0 (2 : Int32) σ8 _ _ e0 h11c) (cwV 1 hts (lw_V q414 q416 qs3 q77 q417) rfl rfl rfl ⟨rfl, cd_X0_found⟩ ⟨Nat.le_of_ble_eq_true rfl, Nat.le_of_ble_eq_true rfl⟩) (cl_preV V [.int (2 : Int32)] e0 k12 rfl (by decide)) rfl rfl hl.1 rfl (lv_room (Nat.le_of_ble_eq_true rfl)) dX0_fits_129 ⟨Nat.le_of_ble_eq_true rfl, Nat.le_of_ble_eq_true rfl⟩) V (fun ad _ _ hag hle V => ?_)
              replace e0 := e0.mv hag hle
              refine W.widen (k := 112) (n := 268) (by first | omega | (dsimp only; omega)) (by first | omega | (dsimp only; omega)) ?_
              obtain ⟨hF1, hF2⟩ := dx_r2 hF
              subst hF1
              subst hF2
              exact vx_ret (cl_ri S V hr hlocks rfl dX0_fits_132)
            replace hF := (if_neg hc).symm.trans hF
            clear hc
            cases hF
          · subst hz
            replace hF := dx_xs_l hF
            replace hF := (dx_gd_some hF).2
            replace e0 := e0.mv hag hle
            refine lv_astore (lv' := [(6, .ref bb8), (0, .ref a0), (1, .int p0), (2, .int p1), (3, .int p2), (4, .int p3), (5, .int p4)]) hx hb dX0_fits_54 hl (by decide) rfl (fun ls hl => ?_)
            refine lv_aload_n hx hb dX0_fits_56 rfl (lv_at hl 1 rfl) ?_
            refine lv_iload hx hb dX0_fits_57 (lv_at hl 6 rfl) ?_
            by_cases hs0 : p4 = (0 : Int32)
            · replace hF := (if_pos hs0).symm.trans hF
              refine lv_lookup (tgt := 84) hx hb dX0_fits_59 (by decide) (by rw [hs0]; try decide) (by decide) ?_
              refine lv_aload_n hx hb dX0_fits_84 rfl (lv_at hl 1 rfl) ?_
              refine lv_iload_n hx hb dX0_fits_85 rfl (lv_at hl 2 rfl) ?_
              refine lv_aload hx hb dX0_fits_86 (lv_at hl 0 rfl) ?_
              obtain ⟨hg, hF⟩ := dx_gd_some hF
              have k18 := of_decide_eq_true hg
              obtain ⟨r17, σ17, h17c, hF⟩ := dx_b2_some hF
              refine cl_ci (va_runV (As := [.int p0, .ref bb8]) S (cm_X0_lowsBy l D dA _ A a0 bb8 o0 r8 p0 σ8 _ _ e0 ee8 h17c) (cwV 2 hts (lw_V q1390 q1392 qs29 q77 q1393) rfl rfl rfl ⟨rfl, cd_X0_lowsBy⟩ ⟨Nat.le_of_ble_eq_true rfl, Nat.le_of_ble_eq_true rfl⟩) (cl_preV V [.int p0, .ref bb8] e0 k18 rfl (by decide)) rfl rfl hl.1 rfl (lv_room (Nat.le_of_ble_eq_true rfl)) dX0_fits_88 ⟨Nat.le_of_ble_eq_true rfl, Nat.le_of_ble_eq_true rfl⟩) V (fun ad _ _ hag hle V => ?_)
              replace e0 := e0.mv hag hle
              replace ee8 := ee8.mv hag hle
              refine lv_goto (tgt := 113) hx hb dX0_fits_91 (by decide) ?_
              refine W.widen (k := 112) (n := 268) (by first | omega | (dsimp only; omega)) (by first | omega | (dsimp only; omega)) ?_
              exact hJ113 σ17 r17 _ _ _ _ hF e0 V (lv_sub hl [] rfl)
            replace hF := (if_neg hs0).symm.trans hF
            by_cases hs1 : p4 = (1 : Int32)
            · replace hF := (if_pos hs1).symm.trans hF
              refine lv_lookup (tgt := 94) hx hb dX0_fits_59 (by decide) (by rw [hs1]; try decide) (by decide) ?_
              refine lv_aload_n hx hb dX0_fits_94 rfl (lv_at hl 1 rfl) ?_
              refine lv_iload_n hx hb dX0_fits_95 rfl (lv_at hl 2 rfl) ?_
              refine lv_iload_n hx hb dX0_fits_96 rfl (lv_at hl 3 rfl) ?_
              refine lv_aload hx hb dX0_fits_97 (lv_at hl 0 rfl) ?_
              obtain ⟨hg, hF⟩ := dx_gd_some hF
              have k20 := of_decide_eq_true hg
              obtain ⟨r19, σ19, h19c, hF⟩ := dx_b2_some hF
              refine cl_ci (va_runV (As := [.int p0, .int p1, .ref bb8]) S (cm_X0_daysBy l D dA _ A a0 bb8 o0 r8 p0 p1 σ8 _ _ e0 ee8 h19c) (cwV 3 hts (lw_V q1411 q1413 qs32 q77 q1414) rfl rfl rfl ⟨rfl, cd_X0_daysBy⟩ ⟨Nat.le_of_ble_eq_true rfl, Nat.le_of_ble_eq_true rfl⟩) (cl_preV V [.int p0, .int p1, .ref bb8] e0 k20 rfl (by decide)) rfl rfl hl.1 rfl (lv_room (Nat.le_of_ble_eq_true rfl)) dX0_fits_99 ⟨Nat.le_of_ble_eq_true rfl, Nat.le_of_ble_eq_true rfl⟩) V (fun ad _ _ hag hle V => ?_)
              replace e0 := e0.mv hag hle
              replace ee8 := ee8.mv hag hle
              refine lv_goto (tgt := 113) hx hb dX0_fits_102 (by decide) ?_
              refine W.widen (k := 112) (n := 268) (by first | omega | (dsimp only; omega)) (by first | omega | (dsimp only; omega)) ?_
              exact hJ113 σ19 r19 _ _ _ _ hF e0 V (lv_sub hl [] rfl)
            replace hF := (if_neg hs1).symm.trans hF
            refine lv_lookup (tgt := 105) hx hb dX0_fits_59 (by decide) (by have nhs0 := lv_neT hs0 (show ((0 : Int32)).toInt = 0 from rfl); have nhs1 := lv_neT hs1 (show ((1 : Int32)).toInt = 1 from rfl); show Op.lookupswitch.offset [(0, 25), (1, 35)] 46 _ = 46; rw [Op.lookupswitch.offset_cons, if_neg (Ne.symm nhs0), Op.lookupswitch.offset_cons, if_neg (Ne.symm nhs1)]; rfl) (by decide) ?_
            refine lv_aload_n hx hb dX0_fits_105 rfl (lv_at hl 1 rfl) ?_
            refine lv_iload_n hx hb dX0_fits_106 rfl (lv_at hl 2 rfl) ?_
            refine lv_iload_n hx hb dX0_fits_107 rfl (lv_at hl 3 rfl) ?_
            refine lv_aload hx hb dX0_fits_108 (lv_at hl 0 rfl) ?_
            obtain ⟨hg, hF⟩ := dx_gd_some hF
            have k14 := of_decide_eq_true hg
            obtain ⟨r13, σ13, h13c, hF⟩ := dx_b2_some hF
            refine cl_ci (va_runV (As := [.int p0, .int p1, .ref bb8]) S (cm_X0_kindsBy l D dA _ A a0 bb8 o0 r8 p0 p1 σ8 _ _ e0 ee8 h13c) (cwV 3 hts (lw_V q1415 q1417 qs33 q77 q1418) rfl rfl rfl ⟨rfl, cd_X0_kindsBy⟩ ⟨Nat.le_of_ble_eq_true rfl, Nat.le_of_ble_eq_true rfl⟩) (cl_preV V [.int p0, .int p1, .ref bb8] e0 k14 rfl (by decide)) rfl rfl hl.1 rfl (lv_room (Nat.le_of_ble_eq_true rfl)) dX0_fits_110 ⟨Nat.le_of_ble_eq_true rfl, Nat.le_of_ble_eq_true rfl⟩) V (fun ad _ _ hag hle V => ?_)
            replace e0 := e0.mv hag hle
            replace ee8 := ee8.mv hag hle
            refine W.widen (k := 112) (n := 268) (by first | omega | (dsimp only; omega)) (by first | omega | (dsimp only; omega)) ?_
            exact hJ113 σ13 r13 _ _ _ _ hF e0 V (lv_sub hl [] rfl)
        · replace hF := dx_ib_f (dx_bI_0 hc) hF
          refine lv_ldc hx hb hown (hts _ q406) dX0_fits_43 ?_
          refine W.widen (k := 112) (n := 268) (by first | omega | (dsimp only; omega)) (by first | omega | (dsimp only; omega)) ?_
          obtain ⟨hF1, hF2⟩ := dx_r2 hF
          subst hF1
          subst hF2
          exact vx_ret (cl_ri S V hr hlocks rfl dX0_fits_45)
theorem cd_X0_tell : yX0_tell.cls ≠ "java/lang/invoke/MethodHandle" ∧ yX0_tell.cls ≠ "java/lang/invoke/VarHandle" ∧ (parseMethodDescriptor yX0_tell.desc).map (fun d => d.parameters.length) = some 3 := by decide +kernel
set_option maxHeartbeats 4000000 in
set_option maxRecDepth 100000 in
theorem cm_X0_tell (l : Launch) (hlt : l.stackTraces = false) (D : va_G) (dA : Nat → ClassId) (ad0 : Nat → Nat) (A : Nat → Prop) (a0 : Nat) (o0 : Nat) (p0 : Int32) (p1 : Int32) (p2 : Int32) (σ0 : cl_S) (r : Int32) (σ' : cl_S) (e0 : cl_at ad0 σ0 a0 o0) (hF : cl_X0_tell o0 σ0 p0 p1 p2 = some (r, σ')) : cx_Hi l yX0_tell cX0_tell 6 .int [(25, 104, 105, 131)] ({ frames := 10, cells := 31, slots := 2228, locals := 10270 }) D dA ad0 A [.ref a0, .int p0, .int p1, .int p2] σ0 r σ' := by
  refine cx_inH RX0 rfl (by decide) (Nat.le_of_ble_eq_true rfl) ?_
  intro p e s m below meth c ls S hr hlocks hini htab hv hl
  have hx := S.1
  have hb := S.2.1
  have hown := S.2.2.2.1
  have hts := S.2.2.2.2
  obtain ⟨hN, hK, hP, hD, hA, hZ⟩ := hv
  have V : cl_V D dA (ad0, cl_n σ0) ad0 A s.heap σ0 s s.heap [] := ⟨hN, hK, hP, hD, va_S.rf, hA, hZ, fun _ _ => rfl, Nat.le_refl _⟩
  obtain ⟨ad, V, e0⟩ : ∃ ad, cl_V D dA (ad0, cl_n σ0) ad A s.heap σ0 s s.heap [] ∧ cl_at ad σ0 a0 o0 := ⟨ad0, V, e0⟩
  replace hl : lv_has ls 6 [(0, .ref a0), (1, .int p0), (2, .int p1), (3, .int p2)] := hl
  unfold cl_X0_tell at hF
  have hL64 : ∀ (v3 : Int32) (v4 : Int32) (n : Nat) (v5 : Int32) (σ : cl_S) (ad : Nat → Nat) (hn : n ≤ 10) (H : Heap) (locs : List Loc) (ls : Array Slot), dx_lp (fun x => cl_X0_tell_L64 o0 x.2 v3 v4 x.1) n (v5, σ) = some (r, σ') → cl_at ad σ a0 o0 → cl_V D dA (ad0, cl_n σ0) ad A s.heap σ s H locs → lv_has ls 6 [(0, .ref a0), (3, .int v3), (4, .int v4), (5, .int v5)] → W p l e ({ frames := 10, cells := 31, slots := 2228, locals := 10270 }) s m ([.ref a0, .int p0, .int p1, .int p2] : List Value).toArray below meth c H locs (1 + 3 * (10 - n)) (8 + 222 * (10 - n)) (vx_MQ below (cl_Qi D dA ad0 A σ0 σ' r) cx_No ([.ref a0, .int p0, .int p1, .int p2] : List Value).toArray s 31 2228 A) (F0 m 64 ls []) := by
    intro v3 v4 n
    induction n with
    | zero =>
      intro v5 σ ad hn H locs ls hF e0 V hl
      exact (dx_lp_0 hF).elim
    | succ n ih64 =>
      intro v5 σ ad hn H locs ls hF e0 V hl
      obtain ⟨y64, hF, hz64⟩ := dx_lp_s hF
      replace hF : cl_X0_tell_L64 o0 σ v3 v4 v5 = some y64 := hF
      unfold cl_X0_tell_L64 at hF
      refine lv_iload hx hb dX0_tell_64 (lv_at hl 3 rfl) ?_
      refine lv_iload hx hb dX0_tell_66 (lv_at hl 2 rfl) ?_
      refine lv_icmp_ge (tgt := 98) hx hb dX0_tell_68 (by decide) (fun hc => ?_) (fun hc => ?_)
      · replace hF := (if_pos hc).symm.trans hF
        replace hF := dx_ex_k hF hz64
        refine W.widen (k := 31) (n := 2228) (by first | omega | (dsimp only; omega)) (by first | omega | (dsimp only; omega)) ?_
        refine lv_aload_n hx hb dX0_tell_98 rfl (lv_at hl 0 rfl) ?_
        refine lv_iload hx hb dX0_tell_99 (lv_at hl 2 rfl) ?_
        obtain ⟨hg, hF⟩ := dx_gd_some hF
        have k23 := of_decide_eq_true hg
        obtain ⟨r22, σ22, h22c, hF⟩ := dx_b2_some hF
        refine cl_ci (va_runV (As := [.int v4]) S (cm_X0_well l D dA _ A a0 o0 v4 σ _ _ e0 h22c) (cwV 1 hts (lw_V q410 q412 qs2 q77 q413) rfl rfl rfl ⟨rfl, cd_X0_well⟩ ⟨Nat.le_of_ble_eq_true rfl, Nat.le_of_ble_eq_true rfl⟩) (cl_preV V [.int v4] e0 k23 rfl (by decide)) rfl rfl hl.1 rfl (lv_room (Nat.le_of_ble_eq_true rfl)) dX0_tell_101 ⟨Nat.le_of_ble_eq_true rfl, Nat.le_of_ble_eq_true rfl⟩) V (fun ad _ _ hag hle V => ?_)
        replace e0 := e0.mv hag hle
        refine W.widen (k := 31) (n := 2228) (by first | omega | (dsimp only; omega)) (by first | omega | (dsimp only; omega)) ?_
        obtain ⟨hF1, hF2⟩ := dx_r2 hF
        subst hF1
        subst hF2
        exact vx_ret (cl_ri S V hr hlocks rfl dX0_tell_104)
      · replace hF := (if_neg hc).symm.trans hF
        refine lv_aload_n hx hb dX0_tell_71 rfl (lv_at hl 0 rfl) ?_
        obtain ⟨hg, hF⟩ := dx_gd_some hF
        have k24 := of_decide_eq_true hg
        obtain ⟨hg, hF⟩ := dx_gd_some hF
        refine cl_gr S V e0 k24 rfl (by decide) in_X0 0 (by decide) rfl q268 rfl dX0_tell_72 (of_decide_eq_true hg) (fun bb25 ee25 => ?_)
        refine lv_iload_n hx hb dX0_tell_75 rfl (lv_at hl 1 rfl) ?_
        obtain ⟨hg, hF⟩ := dx_gd_some hF
        have k26 := of_decide_eq_true hg
        obtain ⟨hi27, hF⟩ := dx_gd_some hF
        obtain ⟨hg, hF⟩ := dx_gd_some hF
        refine cl_lr 3 24 S V ee25 k26 (by decide) rfl (dx_inb_in hi27) dX0_tell_76 (of_decide_eq_true hg) (fun bb28 ee28 => ?_)
        refine lv_iload hx hb dX0_tell_77 (lv_at hl 3 rfl) ?_
        refine lv_aload_n hx hb dX0_tell_79 rfl (lv_at hl 0 rfl) ?_
        obtain ⟨hg, hF⟩ := dx_gd_some hF
        refine cl_gr S V e0 k24 rfl (by decide) in_X0 6 (by decide) rfl q274 rfl dX0_tell_80 (of_decide_eq_true hg) (fun bb29 ee29 => ?_)
        refine lv_iload hx hb dX0_tell_83 (lv_at hl 3 rfl) ?_
        obtain ⟨hg, hF⟩ := dx_gd_some hF
        have k31 := of_decide_eq_true hg
        obtain ⟨r30, h30c, hF⟩ := dx_b1_some hF
        refine cl_ci (va_runV (As := [.int v5]) S (cm_X3_first l D dA _ A bb29 (cl_r σ o0 6) v5 σ _ ee29 h30c) (cwV 1 hts (lw_V q1403 q1404 q1405 q80 q1406) rfl rfl rfl ⟨rfl, cd_X3_first⟩ ⟨Nat.le_of_ble_eq_true rfl, Nat.le_of_ble_eq_true rfl⟩) (cl_preV V [.int v5] ee29 k31 rfl (by decide)) rfl rfl hl.1 rfl (lv_room (Nat.le_of_ble_eq_true rfl)) dX0_tell_85 ⟨by show _ ≤ 31; first | omega | (dsimp only; omega), by show _ ≤ 2228; first | omega | (dsimp only; omega)⟩) V (fun ad _ _ hag hle V => ?_)
        replace ee28 := ee28.mv hag hle
        replace e0 := e0.mv hag hle
        obtain ⟨hg, hF⟩ := dx_gd_some hF
        have k33 := of_decide_eq_true hg
        obtain ⟨z32, σ32, h32c, hF⟩ := dx_bx_some hF
        refine cx_ci (vx_runVN (As := [.int v5, .int r30]) S (cm_X1_put l hlt D dA _ A bb28 (cl_r σ (cl_r σ o0 0) v3.toNatClampNeg) v5 r30 σ _ _ ee28 h32c) ⟨va_cnB 2 hts (lw_meth q471) rfl rfl rfl (V.1.1 _ cn_q468) (hts _ q78) cd_X1_put ⟨Nat.le_of_ble_eq_true rfl, Nat.le_of_ble_eq_true rfl⟩, hts _ q470, hts _ qs4⟩ (cl_preV V [.int v5, .int r30] ee28 k33 rfl (by decide)) rfl rfl hl.1 rfl (lv_room (Nat.le_of_ble_eq_true rfl)) dX0_tell_88 ⟨by show _ ≤ 31; first | omega | (dsimp only; omega), by show _ ≤ 2228; first | omega | (dsimp only; omega)⟩) V (fun x32 ce q9 ad _ _ hz hag hle hq9 V hce hcv hcl => ?_) (fun r32 ad _ _ hz hag hle V => ?_)
        · subst hz
          replace hF := dx_xs_r hF
          replace e0 := e0.mv hag hle
          cases hF
        · subst hz
          replace hF := dx_xs_l hF
          replace e0 := e0.mv hag hle
          refine lv_pop hx hb dX0_tell_91 rfl ?_
          refine lv_iinc (v := (v5 + (1 : Int32))) (lv' := [(5, .int (v5 + (1 : Int32))), (0, .ref a0), (3, .int v3), (4, .int v4)]) hx hb dX0_tell_92 hl (k := 3) rfl rfl (by decide) rfl (fun ls hl => ?_)
          refine lv_goto (tgt := 64) hx hb dX0_tell_95 (by decide) ?_
          refine W.widen (k := 1 + 3 * (10 - n)) (n := 8 + 222 * (10 - n)) (by first | omega | (dsimp only; omega)) (by first | omega | (dsimp only; omega)) ?_
          replace hF := Option.some.inj hF
          subst hF
          exact ih64 (v5 + (1 : Int32)) σ32 _ (by omega) _ _ _ (dx_lk_l hz64) e0 V (lv_sub hl [1, 2, 3, 0] rfl)
  refine lv_aload_n hx hb dX0_tell_0 rfl (lv_at hl 0 rfl) ?_
  refine lv_iload_n hx hb dX0_tell_1 rfl (lv_at hl 1 rfl) ?_
  obtain ⟨hg, hF⟩ := dx_gd_some hF
  have k2 := of_decide_eq_true hg
  obtain ⟨r1, h1c, hF⟩ := dx_b1_some hF
  refine cl_ci (va_runV (As := [.int p0]) S (cm_X0_isPerson l D dA _ A a0 o0 p0 σ0 _ e0 h1c) (cwV 1 hts (lw_V q1059 q1061 qs17 q77 q1062) rfl rfl rfl ⟨rfl, cd_X0_isPerson⟩ ⟨Nat.le_of_ble_eq_true rfl, Nat.le_of_ble_eq_true rfl⟩) (cl_preV V [.int p0] e0 k2 rfl (by decide)) rfl rfl hl.1 rfl (lv_room (Nat.le_of_ble_eq_true rfl)) dX0_tell_2 ⟨Nat.le_of_ble_eq_true rfl, Nat.le_of_ble_eq_true rfl⟩) V (fun ad _ _ hag hle V => ?_)
  replace e0 := e0.mv hag hle
  refine lv_if_eq (tgt := 22) hx hb dX0_tell_5 (by decide) (fun hc => ?_) (fun hc => ?_)
  · replace hF := dx_ib_f (dx_bI_0 hc) hF
    refine lv_ldc hx hb hown (hts _ q406) dX0_tell_22 ?_
    refine W.widen (k := 31) (n := 2228) (by first | omega | (dsimp only; omega)) (by first | omega | (dsimp only; omega)) ?_
    obtain ⟨hF1, hF2⟩ := dx_r2 hF
    subst hF1
    subst hF2
    exact vx_ret (cl_ri S V hr hlocks rfl dX0_tell_24)
  · replace hF := dx_ib_t (dx_bI_n hc) hF
    refine lv_iload_n hx hb dX0_tell_8 rfl (lv_at hl 2 rfl) ?_
    obtain ⟨r3, h3c, hF⟩ := dx_b1_some hF
    refine dx_cPi S [.int p1] (cm_X0_isDay l p1 _ h3c) (va_cwS 1 hts (lw_S q1063 q1064 q77 q1065) rfl rfl rfl cd_X0_isDay ⟨Nat.le_of_ble_eq_true rfl, Nat.le_of_ble_eq_true rfl⟩) rfl rfl hl.1 (Nat.le_of_ble_eq_true rfl) dX0_tell_9 ⟨Nat.le_of_ble_eq_true rfl, Nat.le_of_ble_eq_true rfl⟩ ?_
    refine lv_if_eq (tgt := 22) hx hb dX0_tell_12 (by decide) (fun hc => ?_) (fun hc => ?_)
    · replace hF := dx_ib_f (dx_bI_0 hc) hF
      refine lv_ldc hx hb hown (hts _ q406) dX0_tell_22 ?_
      refine W.widen (k := 31) (n := 2228) (by first | omega | (dsimp only; omega)) (by first | omega | (dsimp only; omega)) ?_
      obtain ⟨hF1, hF2⟩ := dx_r2 hF
      subst hF1
      subst hF2
      exact vx_ret (cl_ri S V hr hlocks rfl dX0_tell_24)
    · replace hF := dx_ib_t (dx_bI_n hc) hF
      refine lv_iload_n hx hb dX0_tell_15 rfl (lv_at hl 3 rfl) ?_
      obtain ⟨r4, h4c, hF⟩ := dx_b1_some hF
      refine dx_cPi S [.int p2] (cm_X0_isRow l p2 _ h4c) (va_cwS 1 hts (lw_S q398 q399 q77 q400) rfl rfl rfl cd_X0_isRow ⟨Nat.le_of_ble_eq_true rfl, Nat.le_of_ble_eq_true rfl⟩) rfl rfl hl.1 (Nat.le_of_ble_eq_true rfl) dX0_tell_16 ⟨Nat.le_of_ble_eq_true rfl, Nat.le_of_ble_eq_true rfl⟩ ?_
      refine lv_if_ne (tgt := 25) hx hb dX0_tell_19 (by decide) (fun hc => ?_) (fun hc => ?_)
      · replace hF := dx_ib_t (dx_bI_n hc) hF
        refine lv_aload_n hx hb dX0_tell_25 rfl (lv_at hl 0 rfl) ?_
        obtain ⟨hg, hF⟩ := dx_gd_some hF
        refine cl_gr S V e0 k2 rfl (by decide) in_X0 6 (by decide) rfl q274 rfl dX0_tell_26 (of_decide_eq_true hg) (fun bb5 ee5 => ?_)
        refine lv_aload_n hx hb dX0_tell_29 rfl (lv_at hl 0 rfl) ?_
        obtain ⟨hg, hF⟩ := dx_gd_some hF
        refine cl_gr S V e0 k2 rfl (by decide) in_X0 4 (by decide) rfl q272 rfl dX0_tell_30 (of_decide_eq_true hg) (fun bb6 ee6 => ?_)
        refine lv_iload_n hx hb dX0_tell_33 rfl (lv_at hl 1 rfl) ?_
        refine lv_iload_n hx hb dX0_tell_34 rfl (lv_at hl 2 rfl) ?_
        refine lv_iconst (v := 0) hx hb dX0_tell_35 (by decide) ?_
        obtain ⟨hg, hF⟩ := dx_gd_some hF
        have k8 := of_decide_eq_true hg
        obtain ⟨r7, σ7, h7c, hF⟩ := dx_b2_some hF
        obtain ⟨hg, hF⟩ := dx_gd_some hF
        refine cl_cr (va_runV (As := [.ref bb6, .int p0, .int p1, .int (0 : Int32)]) S (cm_X3_go l D dA _ A bb5 bb6 (cl_r σ0 o0 6) (cl_r σ0 o0 4) p0 p1 (0 : Int32) σ0 _ _ ee5 ee6 h7c) (cwV 4 hts (lw_V q1155 q1156 q1157 q80 q1158) rfl rfl rfl ⟨rfl, cd_X3_go⟩ ⟨Nat.le_of_ble_eq_true rfl, Nat.le_of_ble_eq_true rfl⟩) (cl_preV V [.ref bb6, .int p0, .int p1, .int (0 : Int32)] ee5 k8 rfl (by decide)) rfl rfl hl.1 rfl (lv_room (Nat.le_of_ble_eq_true rfl)) dX0_tell_36 ⟨Nat.le_of_ble_eq_true rfl, Nat.le_of_ble_eq_true rfl⟩) V (of_decide_eq_true hg) (fun bb7 ad _ _ hag hle ee7 V => ?_)
        replace e0 := e0.mv hag hle
        refine lv_pop hx hb dX0_tell_39 rfl ?_
        refine lv_aload_n hx hb dX0_tell_40 rfl (lv_at hl 0 rfl) ?_
        obtain ⟨hg, hF⟩ := dx_gd_some hF
        have k9 := of_decide_eq_true hg
        obtain ⟨hg, hF⟩ := dx_gd_some hF
        refine cl_gr S V e0 k9 rfl (by decide) in_X0 0 (by decide) rfl q268 rfl dX0_tell_41 (of_decide_eq_true hg) (fun bb10 ee10 => ?_)
        refine lv_iload_n hx hb dX0_tell_44 rfl (lv_at hl 3 rfl) ?_
        obtain ⟨hg, hF⟩ := dx_gd_some hF
        have k11 := of_decide_eq_true hg
        obtain ⟨hi12, hF⟩ := dx_gd_some hF
        obtain ⟨hg, hF⟩ := dx_gd_some hF
        refine cl_lr 3 24 S V ee10 k11 (by decide) rfl (dx_inb_in hi12) dX0_tell_45 (of_decide_eq_true hg) (fun bb13 ee13 => ?_)
        obtain ⟨hg, hF⟩ := dx_gd_some hF
        have k15 := of_decide_eq_true hg
        obtain ⟨z14, σ14, h14c, hF⟩ := dx_bx_some hF
        refine cx_ci (vx_runVN (As := []) S (cm_X1_many l hlt D dA _ A bb13 (cl_r σ7 (cl_r σ7 o0 0) p2.toNatClampNeg)  σ7 _ _ ee13 h14c) ⟨va_cnB 0 hts (lw_meth q508) rfl rfl rfl (V.1.1 _ cn_q505) (hts _ q78) cd_X1_many ⟨Nat.le_of_ble_eq_true rfl, Nat.le_of_ble_eq_true rfl⟩, hts _ q507, hts _ qs6⟩ (cl_preV V [] ee13 k15 rfl (by decide)) rfl rfl hl.1 rfl (lv_room (Nat.le_of_ble_eq_true rfl)) dX0_tell_46 ⟨Nat.le_of_ble_eq_true rfl, Nat.le_of_ble_eq_true rfl⟩) V (fun x14 ce q9 ad _ _ hz hag hle hq9 V hce hcv hcl => ?_) (fun r14 ad _ _ hz hag hle V => ?_)
        · subst hz
          replace hF := dx_xs_r hF
          replace e0 := e0.mv hag hle
          by_cases hc : x14 = 1
          · replace hF := (if_pos hc).symm.trans hF
            subst hc
            refine vx_catch (E := "java/lang/NullPointerException") (name := "java/lang/NullPointerException") hown [] ⟨25, 104, 105, 131⟩ [] (by rw [htab]; rfl) (fun z h => nomatch h) rfl (by decide) (hts _ q424) (va_Nw.use rfl (V.1.1 _ cn_q446)) hce hcv hcl ?_
            refine lv_astore (lv' := [(4, .ref q9), (0, .ref a0), (1, .int p0), (2, .int p1), (3, .int p2)]) hx hb dX0_tell_105 hl (by decide) rfl (fun ls hl => ?_)
            refine lv_aload_n hx hb dX0_tell_107 rfl (lv_at hl 1 rfl) ?_
            refine lv_iconst (v := 1) hx hb dX0_tell_108 (by decide) ?_
            obtain ⟨hg, hF⟩ := dx_gd_some hF
            have k17 := of_decide_eq_true hg
            obtain ⟨r16, σ16, h16c, hF⟩ := dx_b2_some hF
            refine cl_ci (va_runV (As := [.int (1 : Int32)]) S (cm_X0_found l D dA _ A a0 o0 (1 : Int32) σ14 _ _ e0 h16c) (cwV 1 hts (lw_V q414 q416 qs3 q77 q417) rfl rfl rfl ⟨rfl, cd_X0_found⟩ ⟨Nat.le_of_ble_eq_true rfl, Nat.le_of_ble_eq_true rfl⟩) (cl_preV V [.int (1 : Int32)] e0 k17 rfl (by decide)) rfl rfl hl.1 rfl (lv_room (Nat.le_of_ble_eq_true rfl)) dX0_tell_109 ⟨Nat.le_of_ble_eq_true rfl, Nat.le_of_ble_eq_true rfl⟩) V (fun ad _ _ hag hle V => ?_)
            replace e0 := e0.mv hag hle
            refine W.widen (k := 31) (n := 2228) (by first | omega | (dsimp only; omega)) (by first | omega | (dsimp only; omega)) ?_
            obtain ⟨hF1, hF2⟩ := dx_r2 hF
            subst hF1
            subst hF2
            exact vx_ret (cl_ri S V hr hlocks rfl dX0_tell_112)
          replace hF := (if_neg hc).symm.trans hF
          clear hc
          cases hF
        · subst hz
          replace hF := dx_xs_l hF
          replace e0 := e0.mv hag hle
          refine lv_aload_n hx hb dX0_tell_49 rfl (lv_at hl 0 rfl) ?_
          obtain ⟨hg, hF⟩ := dx_gd_some hF
          have k18 := of_decide_eq_true hg
          obtain ⟨hg, hF⟩ := dx_gd_some hF
          refine cl_gr S V e0 k18 rfl (by decide) in_X0 4 (by decide) rfl q272 rfl dX0_tell_50 (of_decide_eq_true hg) (fun bb19 ee19 => ?_)
          obtain ⟨hg, hF⟩ := dx_gd_some hF
          have k20 := of_decide_eq_true hg
          refine cl_gi S V ee19 k20 rfl (by decide) in_X2 0 (by decide) rfl q152 rfl dX0_tell_53 ?_
          refine va_mmin hx hb (by rw [hl.1]; exact S.2.2.1) hown (hts _ q1394) (hts _ q695) (hts _ q100) (hts _ q696) (Nat.le_of_ble_eq_true rfl) (Nat.le_of_ble_eq_true rfl) (Nat.le_of_ble_eq_true rfl) (Nat.le_of_ble_eq_true rfl) dX0_tell_56 ?_
          refine lv_topi (fun x21 ex21 => ?_)
          replace hF := dx_let_e ex21 hF
          refine lv_istore (lv' := [(4, .int x21), (0, .ref a0), (1, .int p0), (2, .int p1), (3, .int p2)]) hx hb dX0_tell_59 hl (by decide) rfl (fun ls hl => ?_)
          refine lv_iconst (v := 0) hx hb dX0_tell_61 (by decide) ?_
          refine lv_istore (lv' := [(5, .int (0 : Int32)), (4, .int x21), (0, .ref a0), (1, .int p0), (2, .int p1), (3, .int p2)]) hx hb dX0_tell_62 hl (by decide) rfl (fun ls hl => ?_)
          refine W.widen (k := 1 + 3 * (10 - 10)) (n := 8 + 222 * (10 - 10)) (by first | omega | (dsimp only; omega)) (by first | omega | (dsimp only; omega)) ?_
          exact hL64 p2 x21 10 (0 : Int32) σ14 _ (by omega) _ _ _ hF e0 V (lv_sub hl [2, 5, 1, 0] rfl)
      · replace hF := dx_ib_f (dx_bI_0 hc) hF
        refine lv_ldc hx hb hown (hts _ q406) dX0_tell_22 ?_
        refine W.widen (k := 31) (n := 2228) (by first | omega | (dsimp only; omega)) (by first | omega | (dsimp only; omega)) ?_
        obtain ⟨hF1, hF2⟩ := dx_r2 hF
        subst hF1
        subst hF2
        exact vx_ret (cl_ri S V hr hlocks rfl dX0_tell_24)
theorem cd_X3_many : yX3_many.cls ≠ "java/lang/invoke/MethodHandle" ∧ yX3_many.cls ≠ "java/lang/invoke/VarHandle" ∧ (parseMethodDescriptor yX3_many.desc).map (fun d => d.parameters.length) = some 0 := by decide +kernel
set_option maxHeartbeats 4000000 in
set_option maxRecDepth 100000 in
theorem cm_X3_many (l : Launch) (D : va_G) (dA : Nat → ClassId) (ad0 : Nat → Nat) (A : Nat → Prop) (a0 : Nat) (o0 : Nat)  (σ0 : cl_S) (r : Int32) (e0 : cl_at ad0 σ0 a0 o0) (hF : cl_X3_many o0 σ0 = some r) : cl_Ci l yX3_many cX3_many 3 .int ({ frames := 0, cells := 0, slots := 0, locals := 0 }) D dA ad0 A [.ref a0] σ0 r σ0 := by
  refine cl_in RX3 rfl (by decide) (Nat.le_of_ble_eq_true rfl) ?_
  intro p e s m below meth c ls S hr hlocks hini hv hl
  have hx := S.1
  have hb := S.2.1
  have hown := S.2.2.2.1
  have hts := S.2.2.2.2
  obtain ⟨hN, hK, hP, hD, hA, hZ⟩ := hv
  have V : cl_V D dA (ad0, cl_n σ0) ad0 A s.heap σ0 s s.heap [] := ⟨hN, hK, hP, hD, va_S.rf, hA, hZ, fun _ _ => rfl, Nat.le_refl _⟩
  obtain ⟨ad, V, e0⟩ : ∃ ad, cl_V D dA (ad0, cl_n σ0) ad A s.heap σ0 s s.heap [] ∧ cl_at ad σ0 a0 o0 := ⟨ad0, V, e0⟩
  replace hl : lv_has ls 3 [(0, .ref a0)] := hl
  unfold cl_X3_many at hF
  have hL4 : ∀  (n : Nat) (v1 : Int32) (v2 : Int32) (ad : Nat → Nat) (H : Heap) (locs : List Loc) (ls : Array Slot), dx_lp (fun x => cl_X3_many_L4 o0 σ0 x.1 x.2) n (v1, v2) = some r → cl_at ad σ0 a0 o0 → cl_V D dA (ad0, cl_n σ0) ad A s.heap σ0 s H locs → lv_has ls 3 [(0, .ref a0), (1, .int v1), (2, .int v2)] → W p l e ({ frames := 0, cells := 0, slots := 0, locals := 0 }) s m ([.ref a0] : List Value).toArray below meth c H locs 0 0 (MQ below (cl_Qi D dA ad0 A σ0 σ0 r) ([.ref a0] : List Value).toArray s 0 0 A) (F0 m 4 ls []) := by
    intro n
    induction n with
    | zero =>
      intro v1 v2 ad H locs ls hF e0 V hl
      exact (dx_lp_0 hF).elim
    | succ n ih4 =>
      intro v1 v2 ad H locs ls hF e0 V hl
      obtain ⟨y4, hF, hz4⟩ := dx_lp_s hF
      replace hF : cl_X3_many_L4 o0 σ0 v1 v2 = some y4 := hF
      unfold cl_X3_many_L4 at hF
      refine lv_iload_n hx hb dX3_many_4 rfl (lv_at hl 2 rfl) ?_
      refine lv_bipush (v := 9) hx hb dX3_many_5 (by decide) ?_
      refine lv_icmp_ge (tgt := 33) hx hb dX3_many_7 (by decide) (fun hc => ?_) (fun hc => ?_)
      · replace hF := (if_pos hc).symm.trans hF
        replace hF := dx_ex_k hF hz4
        refine lv_iload_n hx hb dX3_many_33 rfl (lv_at hl 1 rfl) ?_
        replace hF := Option.some.inj hF
        subst hF
        exact cl_ri S V hr hlocks rfl dX3_many_34
      · replace hF := (if_neg hc).symm.trans hF
        refine lv_iload_n hx hb dX3_many_10 rfl (lv_at hl 1 rfl) ?_
        refine lv_aload_n hx hb dX3_many_11 rfl (lv_at hl 0 rfl) ?_
        obtain ⟨hg, hF⟩ := dx_gd_some hF
        have k1 := of_decide_eq_true hg
        obtain ⟨hg, hF⟩ := dx_gd_some hF
        refine cl_gr S V e0 k1 rfl (by decide) in_X3 0 (by decide) rfl q214 rfl dX3_many_12 (of_decide_eq_true hg) (fun bb2 ee2 => ?_)
        refine lv_iload_n hx hb dX3_many_15 rfl (lv_at hl 2 rfl) ?_
        obtain ⟨hg, hF⟩ := dx_gd_some hF
        have k3 := of_decide_eq_true hg
        obtain ⟨hg, hF⟩ := dx_gd_some hF
        refine cl_ld S V ee2 k3 (dx_inb_in hg) dX3_many_16 ?_
        refine lv_if_ne (tgt := 24) hx hb dX3_many_17 (by decide) (fun hc => ?_) (fun hc => ?_)
        · replace hF := (if_neg hc).symm.trans hF
          refine lv_iconst (v := 1) hx hb dX3_many_24 (by decide) ?_
          refine lv_iadd hx hb dX3_many_25 ?_
          refine lv_istore_n (lv' := [(1, .int (v1 + (1 : Int32))), (0, .ref a0), (2, .int v2)]) hx hb dX3_many_26 rfl hl (by decide) rfl (fun ls hl => ?_)
          refine lv_iinc (v := (v2 + (1 : Int32))) (lv' := [(2, .int (v2 + (1 : Int32))), (1, .int (v1 + (1 : Int32))), (0, .ref a0)]) hx hb dX3_many_27 hl (k := 2) rfl rfl (by decide) rfl (fun ls hl => ?_)
          refine lv_goto (tgt := 4) hx hb dX3_many_30 (by decide) ?_
          replace hF := Option.some.inj hF
          subst hF
          exact ih4 (v1 + (1 : Int32)) (v2 + (1 : Int32)) _ _ _ _ (dx_lk_l hz4) e0 V (lv_sub hl [2, 1, 0] rfl)
        · replace hF := (if_pos hc).symm.trans hF
          refine lv_iconst (v := 0) hx hb dX3_many_20 (by decide) ?_
          refine lv_goto (tgt := 25) hx hb dX3_many_21 (by decide) ?_
          refine lv_iadd hx hb dX3_many_25 ?_
          refine lv_istore_n (lv' := [(1, .int (v1 + (0 : Int32))), (0, .ref a0), (2, .int v2)]) hx hb dX3_many_26 rfl hl (by decide) rfl (fun ls hl => ?_)
          refine lv_iinc (v := (v2 + (1 : Int32))) (lv' := [(2, .int (v2 + (1 : Int32))), (1, .int (v1 + (0 : Int32))), (0, .ref a0)]) hx hb dX3_many_27 hl (k := 2) rfl rfl (by decide) rfl (fun ls hl => ?_)
          refine lv_goto (tgt := 4) hx hb dX3_many_30 (by decide) ?_
          replace hF := Option.some.inj hF
          subst hF
          exact ih4 (v1 + (0 : Int32)) (v2 + (1 : Int32)) _ _ _ _ (dx_lk_l hz4) e0 V (lv_sub hl [2, 1, 0] rfl)
  refine lv_iconst (v := 0) hx hb dX3_many_0 (by decide) ?_
  refine lv_istore_n (lv' := [(1, .int (0 : Int32)), (0, .ref a0)]) hx hb dX3_many_1 rfl hl (by decide) rfl (fun ls hl => ?_)
  refine lv_iconst (v := 0) hx hb dX3_many_2 (by decide) ?_
  refine lv_istore_n (lv' := [(2, .int (0 : Int32)), (1, .int (0 : Int32)), (0, .ref a0)]) hx hb dX3_many_3 rfl hl (by decide) rfl (fun ls hl => ?_)
  exact hL4  dx_fu (0 : Int32) (0 : Int32) _ _ _ _ hF e0 V (lv_sub hl [2, 1, 0] rfl)
theorem cd_X0_drawn : yX0_drawn.cls ≠ "java/lang/invoke/MethodHandle" ∧ yX0_drawn.cls ≠ "java/lang/invoke/VarHandle" ∧ (parseMethodDescriptor yX0_drawn.desc).map (fun d => d.parameters.length) = some 3 := by decide +kernel
set_option maxHeartbeats 4000000 in
set_option maxRecDepth 100000 in
theorem cm_X0_drawn (l : Launch) (D : va_G) (dA : Nat → ClassId) (ad0 : Nat → Nat) (A : Nat → Prop) (a0 : Nat) (o0 : Nat) (p0 : Int32) (p1 : Int32) (p2 : Int32) (σ0 : cl_S) (r : Int32) (σ' : cl_S) (e0 : cl_at ad0 σ0 a0 o0) (hF : cl_X0_drawn o0 σ0 p0 p1 p2 = some (r, σ')) : cl_Ci l yX0_drawn cX0_drawn 9 .int ({ frames := 6, cells := 0, slots := 0, locals := 140 }) D dA ad0 A [.ref a0, .int p0, .int p1, .int p2] σ0 r σ' := by
  refine cl_in RX0 rfl (by decide) (Nat.le_of_ble_eq_true rfl) ?_
  intro p e s m below meth c ls S hr hlocks hini hv hl
  have hx := S.1
  have hb := S.2.1
  have hown := S.2.2.2.1
  have hts := S.2.2.2.2
  obtain ⟨hN, hK, hP, hD, hA, hZ⟩ := hv
  have V : cl_V D dA (ad0, cl_n σ0) ad0 A s.heap σ0 s s.heap [] := ⟨hN, hK, hP, hD, va_S.rf, hA, hZ, fun _ _ => rfl, Nat.le_refl _⟩
  obtain ⟨ad, V, e0⟩ : ∃ ad, cl_V D dA (ad0, cl_n σ0) ad A s.heap σ0 s s.heap [] ∧ cl_at ad σ0 a0 o0 := ⟨ad0, V, e0⟩
  replace hl : lv_has ls 9 [(0, .ref a0), (1, .int p0), (2, .int p1), (3, .int p2)] := hl
  unfold cl_X0_drawn at hF
  have hL51 : ∀ (v1 : Int32) (v2 : Int32) (v4 : Nat) (n : Nat) (v5 : Int32) (v6 : Int64) (v8 : Int32) (σ : cl_S) (ad : Nat → Nat) (b4 : Nat) (H : Heap) (locs : List Loc) (ls : Array Slot), dx_lp (fun x => cl_X0_drawn_L51 o0 x.2.2.2 v1 v2 v4 x.1 x.2.1 x.2.2.1) n (v5, v6, v8, σ) = some (r, σ') → cl_at ad σ a0 o0 → cl_at ad σ b4 v4 → cl_V D dA (ad0, cl_n σ0) ad A s.heap σ s H locs → lv_has ls 9 [(0, .ref a0), (1, .int v1), (2, .int v2), (4, .ref b4), (5, .int v5), (6, .long v6), (8, .int v8)] → W p l e ({ frames := 6, cells := 0, slots := 0, locals := 140 }) s m ([.ref a0, .int p0, .int p1, .int p2] : List Value).toArray below meth c H locs 0 0 (MQ below (cl_Qi D dA ad0 A σ0 σ' r) ([.ref a0, .int p0, .int p1, .int p2] : List Value).toArray s 0 0 A) (F0 m 51 ls []) := by
    intro v1 v2 v4 n
    induction n with
    | zero =>
      intro v5 v6 v8 σ ad b4 H locs ls hF e0 e4 V hl
      exact (dx_lp_0 hF).elim
    | succ n ih51 =>
      intro v5 v6 v8 σ ad b4 H locs ls hF e0 e4 V hl
      obtain ⟨y51, hF, hz51⟩ := dx_lp_s hF
      replace hF : cl_X0_drawn_L51 o0 σ v1 v2 v4 v5 v6 v8 = some y51 := hF
      unfold cl_X0_drawn_L51 at hF
      have hJ104 : ∀ (σ : cl_S) (v5 : Int32) (v6 : Int64) (v8 : Int32) (ad : Nat → Nat) (b4 : Nat) (H : Heap) (locs : List Loc) (ls : Array Slot), cl_X0_drawn_J104 o0 σ v1 v2 v4 v5 v6 v8 = some y51 → cl_at ad σ a0 o0 → cl_at ad σ b4 v4 → cl_V D dA (ad0, cl_n σ0) ad A s.heap σ s H locs → lv_has ls 9 [(0, .ref a0), (1, .int v1), (2, .int v2), (4, .ref b4), (5, .int v5), (6, .long v6), (8, .int v8)] → W p l e ({ frames := 6, cells := 0, slots := 0, locals := 140 }) s m ([.ref a0, .int p0, .int p1, .int p2] : List Value).toArray below meth c H locs 0 0 (MQ below (cl_Qi D dA ad0 A σ0 σ' r) ([.ref a0, .int p0, .int p1, .int p2] : List Value).toArray s 0 0 A) (F0 m 104 ls []) := by
        intro σ v5 v6 v8 ad b4 H locs ls hF e0 e4 V hl
        unfold cl_X0_drawn_J104 at hF
        refine lv_iload hx hb dX0_drawn_104 (lv_at hl 4 rfl) ?_
        refine lv_aload_n hx hb dX0_drawn_106 rfl (lv_at hl 0 rfl) ?_
        obtain ⟨hg, hF⟩ := dx_gd_some hF
        have k8 := of_decide_eq_true hg
        obtain ⟨hg, hF⟩ := dx_gd_some hF
        refine cl_gr S V e0 k8 rfl (by decide) in_X0 6 (by decide) rfl q274 rfl dX0_drawn_107 (of_decide_eq_true hg) (fun bb9 ee9 => ?_)
        refine lv_aload hx hb dX0_drawn_110 (lv_at hl 3 rfl) ?_
        refine lv_iload_n hx hb dX0_drawn_112 rfl (lv_at hl 1 rfl) ?_
        refine lv_iconst (v := 0) hx hb dX0_drawn_113 (by decide) ?_
        refine lv_iconst (v := 0) hx hb dX0_drawn_114 (by decide) ?_
        obtain ⟨hg, hF⟩ := dx_gd_some hF
        have k11 := of_decide_eq_true hg
        obtain ⟨r10, σ10, h10c, hF⟩ := dx_b2_some hF
        obtain ⟨hg, hF⟩ := dx_gd_some hF
        refine cl_cr (va_runV (As := [.ref b4, .int v1, .int (0 : Int32), .int (0 : Int32)]) S (cm_X3_go l D dA _ A bb9 b4 (cl_r σ o0 6) v4 v1 (0 : Int32) (0 : Int32) σ _ _ ee9 e4 h10c) (cwV 4 hts (lw_V q1155 q1156 q1157 q80 q1158) rfl rfl rfl ⟨rfl, cd_X3_go⟩ ⟨Nat.le_of_ble_eq_true rfl, Nat.le_of_ble_eq_true rfl⟩) (cl_preV V [.ref b4, .int v1, .int (0 : Int32), .int (0 : Int32)] ee9 k11 rfl (by decide)) rfl rfl hl.1 rfl (lv_room (Nat.le_of_ble_eq_true rfl)) dX0_drawn_115 ⟨Nat.le_of_ble_eq_true rfl, Nat.le_of_ble_eq_true rfl⟩) V (of_decide_eq_true hg) (fun bb10 ad _ _ hag hle ee10 V => ?_)
        replace e0 := e0.mv hag hle
        replace e4 := e4.mv hag hle
        obtain ⟨hg, hF⟩ := dx_gd_some hF
        have k13 := of_decide_eq_true hg
        obtain ⟨r12, h12c, hF⟩ := dx_b1_some hF
        refine cl_ci (va_runV (As := []) S (cm_X3_many l D dA _ A bb10 r10  σ10 _ ee10 h12c) (cwV 0 hts (lw_V q1432 q1433 q1434 q80 q1435) rfl rfl rfl ⟨rfl, cd_X3_many⟩ ⟨Nat.le_of_ble_eq_true rfl, Nat.le_of_ble_eq_true rfl⟩) (cl_preV V [] ee10 k13 rfl (by decide)) rfl rfl hl.1 rfl (lv_room (Nat.le_of_ble_eq_true rfl)) dX0_drawn_118 ⟨Nat.le_of_ble_eq_true rfl, Nat.le_of_ble_eq_true rfl⟩) V (fun ad _ _ hag hle V => ?_)
        replace e0 := e0.mv hag hle
        replace e4 := e4.mv hag hle
        refine lv_iadd hx hb dX0_drawn_121 ?_
        refine lv_istore (lv' := [(5, .int (v5 + r12)), (0, .ref a0), (1, .int v1), (2, .int v2), (4, .ref b4), (6, .long v6), (8, .int v8)]) hx hb dX0_drawn_122 hl (by decide) rfl (fun ls hl => ?_)
        refine lv_iinc (v := (v8 + (1 : Int32))) (lv' := [(8, .int (v8 + (1 : Int32))), (5, .int (v5 + r12)), (0, .ref a0), (1, .int v1), (2, .int v2), (4, .ref b4), (6, .long v6)]) hx hb dX0_drawn_124 hl (k := 6) rfl rfl (by decide) rfl (fun ls hl => ?_)
        refine lv_goto (tgt := 51) hx hb dX0_drawn_127 (by decide) ?_
        replace hF := Option.some.inj hF
        subst hF
        exact ih51 (v5 + r12) v6 (v8 + (1 : Int32)) σ10 _ _ _ _ _ (dx_lk_l hz51) e0 e4 V (lv_sub hl [2, 3, 4, 5, 1, 6, 0] rfl)
      refine lv_iload hx hb dX0_drawn_51 (lv_at hl 6 rfl) ?_
      refine lv_iload_n hx hb dX0_drawn_53 rfl (lv_at hl 2 rfl) ?_
      refine lv_icmp_ge (tgt := 130) hx hb dX0_drawn_54 (by decide) (fun hc => ?_) (fun hc => ?_)
      · replace hF := (if_pos hc).symm.trans hF
        replace hF := dx_ex_k hF hz51
        refine lv_iload hx hb dX0_drawn_130 (lv_at hl 4 rfl) ?_
        obtain ⟨hF1, hF2⟩ := dx_r2 hF
        subst hF1
        subst hF2
        exact cl_ri S V hr hlocks rfl dX0_drawn_132
      · replace hF := (if_neg hc).symm.trans hF
        refine lv_lload hx hb dX0_drawn_57 (lv_at hl 5 rfl) ?_
        refine lv_ldc2 hx hb hown (hts _ q1428) dX0_drawn_59 ?_
        refine lv_lmul hx hb dX0_drawn_62 ?_
        refine lv_ldc2 hx hb hown (hts _ q1429) dX0_drawn_63 ?_
        refine lv_lrem hx hb dX0_drawn_66 (by decide) ?_
        refine lv_topl (fun x6 ex6 => ?_)
        replace hF := dx_let_e ex6 hF
        refine lv_lstore (lv' := [(6, .long x6), (0, .ref a0), (1, .int v1), (2, .int v2), (4, .ref b4), (5, .int v5), (8, .int v8)]) hx hb dX0_drawn_67 hl (by decide) rfl (fun ls hl => ?_)
        refine lv_aload hx hb dX0_drawn_69 (lv_at hl 4 rfl) ?_
        obtain ⟨hg, hF⟩ := dx_gd_some hF
        have k7 := of_decide_eq_true hg
        refine cl_gi S V e4 k7 rfl (by decide) in_X2 1 (by decide) rfl q157 rfl dX0_drawn_71 ?_
        refine lv_if_le (tgt := 104) hx hb dX0_drawn_74 (by decide) (fun hc => ?_) (fun hc => ?_)
        · replace hF := (if_pos hc).symm.trans hF
          exact hJ104 σ v5 x6 v8 _ _ _ _ _ hF e0 e4 V (lv_sub hl [1, 2, 3, 4, 5, 0, 6] rfl)
        · replace hF := (if_neg hc).symm.trans hF
          refine lv_aload hx hb dX0_drawn_77 (lv_at hl 4 rfl) ?_
          obtain ⟨hg, hF⟩ := dx_gd_some hF
          refine cl_gr S V e4 k7 rfl (by decide) in_X2 8 (by decide) rfl q183 rfl dX0_drawn_79 (of_decide_eq_true hg) (fun bb14 ee14 => ?_)
          refine lv_lload hx hb dX0_drawn_82 (lv_at hl 0 rfl) ?_
          refine lv_aload hx hb dX0_drawn_84 (lv_at hl 4 rfl) ?_
          refine cl_gi S V e4 k7 rfl (by decide) in_X2 1 (by decide) rfl q157 rfl dX0_drawn_86 ?_
          refine lv_i2l hx hb dX0_drawn_89 rfl ?_
          obtain ⟨hg, hF⟩ := dx_gd_some hF
          refine lv_lrem hx hb dX0_drawn_90 (of_decide_eq_true hg) ?_
          refine lv_l2i hx hb dX0_drawn_91 rfl ?_
          refine lv_lload hx hb dX0_drawn_92 (lv_at hl 0 rfl) ?_
          refine lv_ldc2 hx hb hown (hts _ q1430) dX0_drawn_94 ?_
          refine lv_ldiv hx hb dX0_drawn_97 (by decide) ?_
          refine lv_ldc2 hx hb hown (hts _ q1431) dX0_drawn_98 ?_
          refine lv_lrem hx hb dX0_drawn_101 (by decide) ?_
          refine lv_l2i hx hb dX0_drawn_102 rfl ?_
          obtain ⟨hg, hF⟩ := dx_gd_some hF
          have k15 := of_decide_eq_true hg
          obtain ⟨hg, hF⟩ := dx_gd_some hF
          refine cl_st S V ee14 k15 (dx_inb_in hg) dX0_drawn_103 (fun _ _ V => ?_)
          obtain ⟨σ16, eσ16⟩ : ∃ x, x = (cl_wi σ (cl_r σ v4 8) ((x6 - x6 / (cl_i σ v4 1).toInt64 * (cl_i σ v4 1).toInt64).toInt32).toNatClampNeg (((x6 / (16 : Int64)) - (x6 / (16 : Int64)) / (31 : Int64) * (31 : Int64)).toInt32)) := ⟨_, rfl⟩
          rw [← eσ16] at V
          replace hF := dx_let_e eσ16 hF
          replace e0 : cl_at ad σ16 a0 o0 := by rw [eσ16]; exact e0
          replace e4 : cl_at ad σ16 b4 v4 := by rw [eσ16]; exact e4
          replace k7 : cl_k σ16 v4 = 2 := by rw [eσ16]; exact k7
          replace k15 : cl_k σ16 (cl_r σ v4 8) = 20 := by rw [eσ16]; exact k15
          exact hJ104 σ16 v5 x6 v8 _ _ _ _ _ hF e0 e4 V (lv_sub hl [1, 2, 3, 4, 5, 0, 6] rfl)
  refine lv_aload_n hx hb dX0_drawn_0 rfl (lv_at hl 0 rfl) ?_
  refine lv_iload_n hx hb dX0_drawn_1 rfl (lv_at hl 1 rfl) ?_
  obtain ⟨hg, hF⟩ := dx_gd_some hF
  have k2 := of_decide_eq_true hg
  obtain ⟨r1, h1c, hF⟩ := dx_b1_some hF
  refine cl_ci (va_runV (As := [.int p0]) S (cm_X0_isPerson l D dA _ A a0 o0 p0 σ0 _ e0 h1c) (cwV 1 hts (lw_V q1059 q1061 qs17 q77 q1062) rfl rfl rfl ⟨rfl, cd_X0_isPerson⟩ ⟨Nat.le_of_ble_eq_true rfl, Nat.le_of_ble_eq_true rfl⟩) (cl_preV V [.int p0] e0 k2 rfl (by decide)) rfl rfl hl.1 rfl (lv_room (Nat.le_of_ble_eq_true rfl)) dX0_drawn_2 ⟨Nat.le_of_ble_eq_true rfl, Nat.le_of_ble_eq_true rfl⟩) V (fun ad _ _ hag hle V => ?_)
  replace e0 := e0.mv hag hle
  refine lv_if_eq (tgt := 32) hx hb dX0_drawn_5 (by decide) (fun hc => ?_) (fun hc => ?_)
  · replace hF := dx_ib_f (dx_bI_0 hc) hF
    refine lv_ldc hx hb hown (hts _ q406) dX0_drawn_32 ?_
    obtain ⟨hF1, hF2⟩ := dx_r2 hF
    subst hF1
    subst hF2
    exact cl_ri S V hr hlocks rfl dX0_drawn_34
  · replace hF := dx_ib_t (dx_bI_n hc) hF
    refine lv_iload_n hx hb dX0_drawn_8 rfl (lv_at hl 2 rfl) ?_
    refine lv_i2l hx hb dX0_drawn_9 rfl ?_
    refine lv_lconst (v := 0) hx hb dX0_drawn_10 (by decide) ?_
    refine lv_ldc2 hx hb hown (hts _ q1066) dX0_drawn_11 ?_
    obtain ⟨r3, h3c, hF⟩ := dx_b1_some hF
    refine dx_cPi S [.long p1.toInt64, .long (0 : Int64), .long (30 : Int64)] (cm_X0_isIn l p1.toInt64 (0 : Int64) (30 : Int64) _ h3c) (va_cwS 3 hts (lw_S q402 q403 q77 q404) rfl rfl rfl cd_X0_isIn ⟨Nat.le_of_ble_eq_true rfl, Nat.le_of_ble_eq_true rfl⟩) rfl rfl hl.1 (Nat.le_of_ble_eq_true rfl) dX0_drawn_14 ⟨Nat.le_of_ble_eq_true rfl, Nat.le_of_ble_eq_true rfl⟩ ?_
    refine lv_if_eq (tgt := 32) hx hb dX0_drawn_17 (by decide) (fun hc => ?_) (fun hc => ?_)
    · replace hF := dx_ib_f (dx_bI_0 hc) hF
      refine lv_ldc hx hb hown (hts _ q406) dX0_drawn_32 ?_
      obtain ⟨hF1, hF2⟩ := dx_r2 hF
      subst hF1
      subst hF2
      exact cl_ri S V hr hlocks rfl dX0_drawn_34
    · replace hF := dx_ib_t (dx_bI_n hc) hF
      refine lv_iload_n hx hb dX0_drawn_20 rfl (lv_at hl 3 rfl) ?_
      refine lv_i2l hx hb dX0_drawn_21 rfl ?_
      refine lv_lconst (v := 1) hx hb dX0_drawn_22 (by decide) ?_
      refine lv_ldc2 hx hb hown (hts _ q1427) dX0_drawn_23 ?_
      obtain ⟨r4, h4c, hF⟩ := dx_b1_some hF
      refine dx_cPi S [.long p2.toInt64, .long (1 : Int64), .long (999999 : Int64)] (cm_X0_isIn l p2.toInt64 (1 : Int64) (999999 : Int64) _ h4c) (va_cwS 3 hts (lw_S q402 q403 q77 q404) rfl rfl rfl cd_X0_isIn ⟨Nat.le_of_ble_eq_true rfl, Nat.le_of_ble_eq_true rfl⟩) rfl rfl hl.1 (Nat.le_of_ble_eq_true rfl) dX0_drawn_26 ⟨Nat.le_of_ble_eq_true rfl, Nat.le_of_ble_eq_true rfl⟩ ?_
      refine lv_if_ne (tgt := 35) hx hb dX0_drawn_29 (by decide) (fun hc => ?_) (fun hc => ?_)
      · replace hF := dx_ib_t (dx_bI_n hc) hF
        refine lv_aload_n hx hb dX0_drawn_35 rfl (lv_at hl 0 rfl) ?_
        obtain ⟨r5, σ5, h5c, hF⟩ := dx_b2_some hF
        obtain ⟨hg, hF⟩ := dx_gd_some hF
        refine cl_cr (va_runV (As := []) S (cm_X0_asNow l D dA _ A a0 o0  σ0 _ _ e0 h5c) (cwV 0 hts (lw_V q1395 q1397 qs30 q77 q1398) rfl rfl rfl ⟨rfl, cd_X0_asNow⟩ ⟨Nat.le_of_ble_eq_true rfl, Nat.le_of_ble_eq_true rfl⟩) (cl_preV V [] e0 k2 rfl (by decide)) rfl rfl hl.1 rfl (lv_room (Nat.le_of_ble_eq_true rfl)) dX0_drawn_36 ⟨Nat.le_of_ble_eq_true rfl, Nat.le_of_ble_eq_true rfl⟩) V (of_decide_eq_true hg) (fun bb5 ad _ _ hag hle ee5 V => ?_)
        replace e0 := e0.mv hag hle
        refine lv_astore (lv' := [(4, .ref bb5), (0, .ref a0), (1, .int p0), (2, .int p1), (3, .int p2)]) hx hb dX0_drawn_39 hl (by decide) rfl (fun ls hl => ?_)
        refine lv_iconst (v := 0) hx hb dX0_drawn_41 (by decide) ?_
        refine lv_istore (lv' := [(5, .int (0 : Int32)), (4, .ref bb5), (0, .ref a0), (1, .int p0), (2, .int p1), (3, .int p2)]) hx hb dX0_drawn_42 hl (by decide) rfl (fun ls hl => ?_)
        refine lv_iload_n hx hb dX0_drawn_44 rfl (lv_at hl 5 rfl) ?_
        refine lv_i2l hx hb dX0_drawn_45 rfl ?_
        refine lv_lstore (lv' := [(6, .long p2.toInt64), (5, .int (0 : Int32)), (4, .ref bb5), (0, .ref a0), (1, .int p0), (2, .int p1), (3, .int p2)]) hx hb dX0_drawn_46 hl (by decide) rfl (fun ls hl => ?_)
        refine lv_iconst (v := 0) hx hb dX0_drawn_48 (by decide) ?_
        refine lv_istore (lv' := [(8, .int (0 : Int32)), (6, .long p2.toInt64), (5, .int (0 : Int32)), (4, .ref bb5), (0, .ref a0), (1, .int p0), (2, .int p1), (3, .int p2)]) hx hb dX0_drawn_49 hl (by decide) rfl (fun ls hl => ?_)
        exact hL51 p0 p1 r5 dx_fu (0 : Int32) p2.toInt64 (0 : Int32) σ5 _ _ _ _ _ hF e0 ee5 V (lv_sub hl [4, 5, 6, 3, 2, 1, 0] rfl)
      · replace hF := dx_ib_f (dx_bI_0 hc) hF
        refine lv_ldc hx hb hown (hts _ q406) dX0_drawn_32 ?_
        obtain ⟨hF1, hF2⟩ := dx_r2 hF
        subst hF1
        subst hF2
        exact cl_ri S V hr hlocks rfl dX0_drawn_34
theorem cd_X0_image : yX0_image.cls ≠ "java/lang/invoke/MethodHandle" ∧ yX0_image.cls ≠ "java/lang/invoke/VarHandle" ∧ (parseMethodDescriptor yX0_image.desc).map (fun d => d.parameters.length) = some 1 := by decide +kernel
set_option maxHeartbeats 4000000 in
set_option maxRecDepth 100000 in
theorem cm_X0_image (l : Launch) (D : va_G) (dA : Nat → ClassId) (ad0 : Nat → Nat) (A : Nat → Prop) (a0 : Nat) (o0 : Nat) (p0 : Int32) (σ0 : cl_S) (r : Int32) (σ' : cl_S) (e0 : cl_at ad0 σ0 a0 o0) (hF : cl_X0_image o0 σ0 p0 = some (r, σ')) : cl_Ci l yX0_image cX0_image 2 .int ({ frames := 2, cells := 7, slots := 67, locals := 47 }) D dA ad0 A [.ref a0, .int p0] σ0 r σ' := by
  refine cl_in RX0 rfl (by decide) (Nat.le_of_ble_eq_true rfl) ?_
  intro p e s m below meth c ls S hr hlocks hini hv hl
  have hx := S.1
  have hb := S.2.1
  have hown := S.2.2.2.1
  have hts := S.2.2.2.2
  obtain ⟨hN, hK, hP, hD, hA, hZ⟩ := hv
  have V : cl_V D dA (ad0, cl_n σ0) ad0 A s.heap σ0 s s.heap [] := ⟨hN, hK, hP, hD, va_S.rf, hA, hZ, fun _ _ => rfl, Nat.le_refl _⟩
  obtain ⟨ad, V, e0⟩ : ∃ ad, cl_V D dA (ad0, cl_n σ0) ad A s.heap σ0 s s.heap [] ∧ cl_at ad σ0 a0 o0 := ⟨ad0, V, e0⟩
  replace hl : lv_has ls 2 [(0, .ref a0), (1, .int p0)] := hl
  unfold cl_X0_image at hF
  have hJ45 : ∀ (σ : cl_S) (v1 : Int32) (ad : Nat → Nat) (H : Heap) (locs : List Loc) (ls : Array Slot), cl_X0_image_J45 o0 σ v1 = some (r, σ') → cl_at ad σ a0 o0 → cl_V D dA (ad0, cl_n σ0) ad A s.heap σ s H locs → lv_has ls 2 [(0, .ref a0), (1, .int v1)] → W p l e ({ frames := 2, cells := 7, slots := 67, locals := 47 }) s m ([.ref a0, .int p0] : List Value).toArray below meth c H locs 7 67 (MQ below (cl_Qi D dA ad0 A σ0 σ' r) ([.ref a0, .int p0] : List Value).toArray s 7 67 A) (F0 m 45 ls []) := by
    intro σ v1 ad H locs ls hF e0 V hl
    unfold cl_X0_image_J45 at hF
    refine lv_aload_n hx hb dX0_image_45 rfl (lv_at hl 0 rfl) ?_
    obtain ⟨hg, hF⟩ := dx_gd_some hF
    have k15 := of_decide_eq_true hg
    obtain ⟨hg, hF⟩ := dx_gd_some hF
    refine cl_gr S V e0 k15 rfl (by decide) in_X0 10 (by decide) rfl q278 rfl dX0_image_46 (of_decide_eq_true hg) (fun bb16 ee16 => ?_)
    refine lv_iload_n hx hb dX0_image_49 rfl (lv_at hl 1 rfl) ?_
    obtain ⟨hg, hF⟩ := dx_gd_some hF
    have k17 := of_decide_eq_true hg
    obtain ⟨hi18, hF⟩ := dx_gd_some hF
    obtain ⟨hg, hF⟩ := dx_gd_some hF
    refine cl_lr 6 27 S V ee16 k17 (by decide) rfl (dx_inb_in hi18) dX0_image_50 (of_decide_eq_true hg) (fun bb19 ee19 => ?_)
    refine lv_aload_n hx hb dX0_image_51 rfl (lv_at hl 0 rfl) ?_
    obtain ⟨hg, hF⟩ := dx_gd_some hF
    refine cl_gr S V e0 k15 rfl (by decide) in_X0 4 (by decide) rfl q272 rfl dX0_image_52 (of_decide_eq_true hg) (fun bb20 ee20 => ?_)
    obtain ⟨hg, hF⟩ := dx_gd_some hF
    have k22 := of_decide_eq_true hg
    obtain ⟨r21, σ21, h21c, hF⟩ := dx_b2_some hF
    obtain ⟨hg, hF⟩ := dx_gd_some hF
    refine cl_cr (va_runV (As := [.ref bb20]) S (cm_X2_become l D dA _ A bb19 bb20 (cl_r σ (cl_r σ o0 10) v1.toNatClampNeg) (cl_r σ o0 4)  σ _ _ ee19 ee20 h21c) (cwV 1 hts (lw_V q1046 q1047 q1048 q79 q1049) rfl rfl rfl ⟨rfl, cd_X2_become⟩ ⟨Nat.le_of_ble_eq_true rfl, Nat.le_of_ble_eq_true rfl⟩) (cl_preV V [.ref bb20] ee19 k22 rfl (by decide)) rfl rfl hl.1 rfl (lv_room (Nat.le_of_ble_eq_true rfl)) dX0_image_55 ⟨Nat.le_of_ble_eq_true rfl, Nat.le_of_ble_eq_true rfl⟩) V (of_decide_eq_true hg) (fun bb21 ad _ _ hag hle ee21 V => ?_)
    replace e0 := e0.mv hag hle
    refine lv_pop hx hb dX0_image_58 rfl ?_
    refine lv_iconst (v := 1) hx hb dX0_image_59 (by decide) ?_
    refine W.widen (k := 7) (n := 67) (by first | omega | (dsimp only; omega)) (by first | omega | (dsimp only; omega)) ?_
    obtain ⟨hF1, hF2⟩ := dx_r2 hF
    subst hF1
    subst hF2
    exact cl_ri S V hr hlocks rfl dX0_image_60
  refine lv_iload_n hx hb dX0_image_0 rfl (lv_at hl 1 rfl) ?_
  refine lv_i2l hx hb dX0_image_1 rfl ?_
  refine lv_lconst (v := 0) hx hb dX0_image_2 (by decide) ?_
  refine lv_lconst (v := 1) hx hb dX0_image_3 (by decide) ?_
  obtain ⟨r1, h1c, hF⟩ := dx_b1_some hF
  refine dx_cPi S [.long p0.toInt64, .long (0 : Int64), .long (1 : Int64)] (cm_X0_isIn l p0.toInt64 (0 : Int64) (1 : Int64) _ h1c) (va_cwS 3 hts (lw_S q402 q403 q77 q404) rfl rfl rfl cd_X0_isIn ⟨Nat.le_of_ble_eq_true rfl, Nat.le_of_ble_eq_true rfl⟩) rfl rfl hl.1 (Nat.le_of_ble_eq_true rfl) dX0_image_4 ⟨Nat.le_of_ble_eq_true rfl, Nat.le_of_ble_eq_true rfl⟩ ?_
  refine lv_if_ne (tgt := 13) hx hb dX0_image_7 (by decide) (fun hc => ?_) (fun hc => ?_)
  · replace hF := dx_ib_t (dx_bI_n hc) hF
    refine lv_aload_n hx hb dX0_image_13 rfl (lv_at hl 0 rfl) ?_
    obtain ⟨hg, hF⟩ := dx_gd_some hF
    have k3 := of_decide_eq_true hg
    obtain ⟨r2, h2c, hF⟩ := dx_b1_some hF
    refine cl_ci (va_runV (As := []) S (cm_X0_isThere l D dA _ A a0 o0  σ0 _ e0 h2c) (cwV 0 hts (lw_V q1092 q1094 qs20 q77 q1095) rfl rfl rfl ⟨rfl, cd_X0_isThere⟩ ⟨Nat.le_of_ble_eq_true rfl, Nat.le_of_ble_eq_true rfl⟩) (cl_preV V [] e0 k3 rfl (by decide)) rfl rfl hl.1 rfl (lv_room (Nat.le_of_ble_eq_true rfl)) dX0_image_14 ⟨Nat.le_of_ble_eq_true rfl, Nat.le_of_ble_eq_true rfl⟩) V (fun ad _ _ hag hle V => ?_)
    replace e0 := e0.mv hag hle
    refine lv_if_ne (tgt := 23) hx hb dX0_image_17 (by decide) (fun hc => ?_) (fun hc => ?_)
    · replace hF := dx_ib_t (dx_bI_n hc) hF
      refine lv_aload_n hx hb dX0_image_23 rfl (lv_at hl 0 rfl) ?_
      obtain ⟨hg, hF⟩ := dx_gd_some hF
      refine cl_gr S V e0 k3 rfl (by decide) in_X0 10 (by decide) rfl q278 rfl dX0_image_24 (of_decide_eq_true hg) (fun bb4 ee4 => ?_)
      refine lv_iload_n hx hb dX0_image_27 rfl (lv_at hl 1 rfl) ?_
      obtain ⟨hg, hF⟩ := dx_gd_some hF
      have k5 := of_decide_eq_true hg
      obtain ⟨hi6, hF⟩ := dx_gd_some hF
      by_cases hn7 : (cl_r σ0 (cl_r σ0 o0 10) p0.toNatClampNeg) = 0
      · replace hF := (if_pos hn7).symm.trans hF
        refine cl_ln 6 27 S V ee4 k5 (by decide) rfl (dx_inb_in hi6) dX0_image_28 hn7 ?_
        refine lv_ifnonnullN hx hb dX0_image_29 ?_
        refine lv_aload_n hx hb dX0_image_32 rfl (lv_at hl 0 rfl) ?_
        obtain ⟨hg, hF⟩ := dx_gd_some hF
        refine cl_gr S V e0 k3 rfl (by decide) in_X0 10 (by decide) rfl q278 rfl dX0_image_33 (of_decide_eq_true hg) (fun bb8 ee8 => ?_)
        refine lv_iload_n hx hb dX0_image_36 rfl (lv_at hl 1 rfl) ?_
        refine cl_new S V rfl (by decide) in_X2 tyX2 tyX2_ok cl_dfX2 q140 q141 q79 (Nat.le_of_ble_eq_true rfl) (Nat.le_of_ble_eq_true rfl) dX0_image_37 (fun bb9 ad _ hag ee9 V => ?_)
        replace ee8 := cl_at.nw 2 0 ee8 hag
        replace e0 := cl_at.nw 2 0 e0 hag
        have k9 : cl_k (cl_nw σ0 2 0) (cl_n σ0 + 1) = 2 := cl_k_nw
        refine lv_dup hx hb dX0_image_40 rfl ?_
        obtain ⟨σ10, h10c, hF⟩ := dx_b1_some hF
        refine cl_cv (va_runI (As := []) S (cm_X2_init l D dA _ A bb9 (cl_n σ0 + 1)  (cl_nw σ0 2 0) _ ee9 h10c) (cwI 0 hts (lw_meth q144) rfl rfl rfl (hts _ q79) (hts _ q142) (hts _ q143) rfl cd_X2_init ⟨Nat.le_of_ble_eq_true rfl, Nat.le_of_ble_eq_true rfl⟩) (cl_preS V [.ref bb9]) rfl rfl hl.1 rfl (lv_room (Nat.le_of_ble_eq_true rfl)) dX0_image_41 ⟨Nat.le_of_ble_eq_true rfl, Nat.le_of_ble_eq_true rfl⟩) V (fun ad _ _ hag hle V => ?_)
        replace ee8 := ee8.mv hag hle
        replace ee9 := ee9.mv hag hle
        replace e0 := e0.mv hag hle
        obtain ⟨hg, hF⟩ := dx_gd_some hF
        have k11 := of_decide_eq_true hg
        obtain ⟨hi12, hF⟩ := dx_gd_some hF
        obtain ⟨hg, hF⟩ := dx_gd_some hF
        have k13 := of_decide_eq_true hg
        refine cl_sa 6 27 S V ee8 k11 (by decide) rfl (dx_inb_in hi12) ee9 (cl_anyS V ee9 k13 rfl (by decide)) dX0_image_44 (fun _ _ V => ?_)
        obtain ⟨σ14, eσ14⟩ : ∃ x, x = (cl_wr σ10 (cl_r σ0 o0 10) p0.toNatClampNeg (cl_n σ0 + 1)) := ⟨_, rfl⟩
        rw [← eσ14] at V
        replace hF := dx_let_e eσ14 hF
        replace e0 : cl_at ad σ14 a0 o0 := by rw [eσ14]; exact e0
        replace k11 : cl_k σ14 (cl_r σ0 o0 10) = 27 := by rw [eσ14]; exact k11
        replace k13 : cl_k σ14 (cl_n σ0 + 1) = 2 := by rw [eσ14]; exact k13
        refine W.widen (k := 7) (n := 67) (by first | omega | (dsimp only; omega)) (by first | omega | (dsimp only; omega)) ?_
        exact hJ45 σ14 p0 _ _ _ _ hF e0 V (lv_sub hl [0, 1] rfl)
      · replace hF := (if_neg hn7).symm.trans hF
        refine cl_lr 6 27 S V ee4 k5 (by decide) rfl (dx_inb_in hi6) dX0_image_28 hn7 (fun bb7 ee7 => ?_)
        refine lv_ifnonnull (tgt := 45) hx hb dX0_image_29 (by decide) ?_
        refine W.widen (k := 7) (n := 67) (by first | omega | (dsimp only; omega)) (by first | omega | (dsimp only; omega)) ?_
        exact hJ45 σ0 p0 _ _ _ _ hF e0 V (lv_sub hl [0, 1] rfl)
    · replace hF := dx_ib_f (dx_bI_0 hc) hF
      refine lv_ldc hx hb hown (hts _ q1083) dX0_image_20 ?_
      refine W.widen (k := 7) (n := 67) (by first | omega | (dsimp only; omega)) (by first | omega | (dsimp only; omega)) ?_
      obtain ⟨hF1, hF2⟩ := dx_r2 hF
      subst hF1
      subst hF2
      exact cl_ri S V hr hlocks rfl dX0_image_22
  · replace hF := dx_ib_f (dx_bI_0 hc) hF
    refine lv_ldc hx hb hown (hts _ q406) dX0_image_10 ?_
    refine W.widen (k := 7) (n := 67) (by first | omega | (dsimp only; omega)) (by first | omega | (dsimp only; omega)) ?_
    obtain ⟨hF1, hF2⟩ := dx_r2 hF
    subst hF1
    subst hF2
    exact cl_ri S V hr hlocks rfl dX0_image_12
theorem cd_X0_restore : yX0_restore.cls ≠ "java/lang/invoke/MethodHandle" ∧ yX0_restore.cls ≠ "java/lang/invoke/VarHandle" ∧ (parseMethodDescriptor yX0_restore.desc).map (fun d => d.parameters.length) = some 1 := by decide +kernel
set_option maxHeartbeats 4000000 in
set_option maxRecDepth 100000 in
theorem cm_X0_restore (l : Launch) (D : va_G) (dA : Nat → ClassId) (ad0 : Nat → Nat) (A : Nat → Prop) (a0 : Nat) (o0 : Nat) (p0 : Int32) (σ0 : cl_S) (r : Int32) (σ' : cl_S) (e0 : cl_at ad0 σ0 a0 o0) (hF : cl_X0_restore o0 σ0 p0 = some (r, σ')) : cl_Ci l yX0_restore cX0_restore 2 .int ({ frames := 2, cells := 0, slots := 0, locals := 47 }) D dA ad0 A [.ref a0, .int p0] σ0 r σ' := by
  refine cl_in RX0 rfl (by decide) (Nat.le_of_ble_eq_true rfl) ?_
  intro p e s m below meth c ls S hr hlocks hini hv hl
  have hx := S.1
  have hb := S.2.1
  have hown := S.2.2.2.1
  have hts := S.2.2.2.2
  obtain ⟨hN, hK, hP, hD, hA, hZ⟩ := hv
  have V : cl_V D dA (ad0, cl_n σ0) ad0 A s.heap σ0 s s.heap [] := ⟨hN, hK, hP, hD, va_S.rf, hA, hZ, fun _ _ => rfl, Nat.le_refl _⟩
  obtain ⟨ad, V, e0⟩ : ∃ ad, cl_V D dA (ad0, cl_n σ0) ad A s.heap σ0 s s.heap [] ∧ cl_at ad σ0 a0 o0 := ⟨ad0, V, e0⟩
  replace hl : lv_has ls 2 [(0, .ref a0), (1, .int p0)] := hl
  unfold cl_X0_restore at hF
  refine lv_iload_n hx hb dX0_restore_0 rfl (lv_at hl 1 rfl) ?_
  refine lv_i2l hx hb dX0_restore_1 rfl ?_
  refine lv_lconst (v := 0) hx hb dX0_restore_2 (by decide) ?_
  refine lv_lconst (v := 1) hx hb dX0_restore_3 (by decide) ?_
  obtain ⟨r1, h1c, hF⟩ := dx_b1_some hF
  refine dx_cPi S [.long p0.toInt64, .long (0 : Int64), .long (1 : Int64)] (cm_X0_isIn l p0.toInt64 (0 : Int64) (1 : Int64) _ h1c) (va_cwS 3 hts (lw_S q402 q403 q77 q404) rfl rfl rfl cd_X0_isIn ⟨Nat.le_of_ble_eq_true rfl, Nat.le_of_ble_eq_true rfl⟩) rfl rfl hl.1 (Nat.le_of_ble_eq_true rfl) dX0_restore_4 ⟨Nat.le_of_ble_eq_true rfl, Nat.le_of_ble_eq_true rfl⟩ ?_
  refine lv_if_ne (tgt := 13) hx hb dX0_restore_7 (by decide) (fun hc => ?_) (fun hc => ?_)
  · replace hF := dx_ib_t (dx_bI_n hc) hF
    refine lv_aload_n hx hb dX0_restore_13 rfl (lv_at hl 0 rfl) ?_
    obtain ⟨hg, hF⟩ := dx_gd_some hF
    have k2 := of_decide_eq_true hg
    obtain ⟨hg, hF⟩ := dx_gd_some hF
    refine cl_gr S V e0 k2 rfl (by decide) in_X0 10 (by decide) rfl q278 rfl dX0_restore_14 (of_decide_eq_true hg) (fun bb3 ee3 => ?_)
    refine lv_iload_n hx hb dX0_restore_17 rfl (lv_at hl 1 rfl) ?_
    obtain ⟨hg, hF⟩ := dx_gd_some hF
    have k4 := of_decide_eq_true hg
    obtain ⟨hi5, hF⟩ := dx_gd_some hF
    by_cases hn6 : (cl_r σ0 (cl_r σ0 o0 10) p0.toNatClampNeg) = 0
    · replace hF := (if_pos hn6).symm.trans hF
      refine cl_ln 6 27 S V ee3 k4 (by decide) rfl (dx_inb_in hi5) dX0_restore_18 hn6 ?_
      refine lv_ifnonnullN hx hb dX0_restore_19 ?_
      refine lv_ldc hx hb hown (hts _ q1083) dX0_restore_22 ?_
      obtain ⟨hF1, hF2⟩ := dx_r2 hF
      subst hF1
      subst hF2
      exact cl_ri S V hr hlocks rfl dX0_restore_24
    · replace hF := (if_neg hn6).symm.trans hF
      refine cl_lr 6 27 S V ee3 k4 (by decide) rfl (dx_inb_in hi5) dX0_restore_18 hn6 (fun bb6 ee6 => ?_)
      refine lv_ifnonnull (tgt := 25) hx hb dX0_restore_19 (by decide) ?_
      refine lv_aload_n hx hb dX0_restore_25 rfl (lv_at hl 0 rfl) ?_
      obtain ⟨hg, hF⟩ := dx_gd_some hF
      refine cl_gr S V e0 k2 rfl (by decide) in_X0 4 (by decide) rfl q272 rfl dX0_restore_26 (of_decide_eq_true hg) (fun bb7 ee7 => ?_)
      refine lv_aload_n hx hb dX0_restore_29 rfl (lv_at hl 0 rfl) ?_
      obtain ⟨hg, hF⟩ := dx_gd_some hF
      refine cl_gr S V e0 k2 rfl (by decide) in_X0 10 (by decide) rfl q278 rfl dX0_restore_30 (of_decide_eq_true hg) (fun bb8 ee8 => ?_)
      refine lv_iload_n hx hb dX0_restore_33 rfl (lv_at hl 1 rfl) ?_
      obtain ⟨hi9, hF⟩ := dx_gd_some hF
      refine cl_lr 6 27 S V ee8 k4 (by decide) rfl (dx_inb_in hi9) dX0_restore_34 hn6 (fun bb10 ee10 => ?_)
      obtain ⟨hg, hF⟩ := dx_gd_some hF
      have k12 := of_decide_eq_true hg
      obtain ⟨r11, σ11, h11c, hF⟩ := dx_b2_some hF
      obtain ⟨hg, hF⟩ := dx_gd_some hF
      refine cl_cr (va_runV (As := [.ref bb10]) S (cm_X2_become l D dA _ A bb7 bb10 (cl_r σ0 o0 4) (cl_r σ0 (cl_r σ0 o0 10) p0.toNatClampNeg)  σ0 _ _ ee7 ee10 h11c) (cwV 1 hts (lw_V q1046 q1047 q1048 q79 q1049) rfl rfl rfl ⟨rfl, cd_X2_become⟩ ⟨Nat.le_of_ble_eq_true rfl, Nat.le_of_ble_eq_true rfl⟩) (cl_preV V [.ref bb10] ee7 k12 rfl (by decide)) rfl rfl hl.1 rfl (lv_room (Nat.le_of_ble_eq_true rfl)) dX0_restore_35 ⟨Nat.le_of_ble_eq_true rfl, Nat.le_of_ble_eq_true rfl⟩) V (of_decide_eq_true hg) (fun bb11 ad _ _ hag hle ee11 V => ?_)
      replace e0 := e0.mv hag hle
      refine lv_pop hx hb dX0_restore_38 rfl ?_
      refine lv_aload_n hx hb dX0_restore_39 rfl (lv_at hl 0 rfl) ?_
      refine lv_iconst (v := 0) hx hb dX0_restore_40 (by decide) ?_
      obtain ⟨hg, hF⟩ := dx_gd_some hF
      have k13 := of_decide_eq_true hg
      refine cl_pi S V e0 k13 rfl (by decide) in_X0 tyX0 tyX0_ok nmX0 9 (by decide) rfl q277 rfl rfl rfl dX0_restore_41 (fun _ _ V => ?_)
      refine lv_iconst (v := 1) hx hb dX0_restore_44 (by decide) ?_
      obtain ⟨hF1, hF2⟩ := dx_r2 hF
      subst hF1
      subst hF2
      exact cl_ri S V hr hlocks rfl dX0_restore_45
  · replace hF := dx_ib_f (dx_bI_0 hc) hF
    refine lv_ldc hx hb hown (hts _ q406) dX0_restore_10 ?_
    obtain ⟨hF1, hF2⟩ := dx_r2 hF
    subst hF1
    subst hF2
    exact cl_ri S V hr hlocks rfl dX0_restore_12
