/-! the class side read back and walked (printed by gen/clmain.py) -/
theorem cd_X3_go : yX3_go.cls ≠ "java/lang/invoke/MethodHandle" ∧ yX3_go.cls ≠ "java/lang/invoke/VarHandle" ∧ (parseMethodDescriptor yX3_go.desc).map (fun d => d.parameters.length) = some 4 := by decide +kernel
set_option maxHeartbeats 4000000 in
set_option maxRecDepth 100000 in
theorem cm_X3_go (l : Launch) (D : va_G) (dA : Nat → ClassId) (ad0 : Nat → Nat) (A : Nat → Prop) (a0 : Nat) (a1 : Nat) (o0 : Nat) (o1 : Nat) (p1 : Int32) (p2 : Int32) (p3 : Int32) (σ0 : cl_S) (r : Nat) (σ' : cl_S) (e0 : cl_at ad0 σ0 a0 o0) (e1 : cl_at ad0 σ0 a1 o1) (hF : cl_X3_go o0 o1 σ0 p1 p2 p3 = some (r, σ')) : cl_Cr l yX3_go cX3_go 7 (.object "DatedContacts$Walk") ({ frames := 5, cells := 0, slots := 0, locals := 114 }) D dA ad0 A [.ref a0, .ref a1, .int p1, .int p2, .int p3] σ0 r σ' := by
  refine cl_in RX3 rfl (by decide) (Nat.le_of_ble_eq_true rfl) ?_
  intro p e s m below meth c ls S hr hlocks hini hv hl
  have hx := S.1
  have hb := S.2.1
  have hown := S.2.2.2.1
  have hts := S.2.2.2.2
  obtain ⟨hN, hK, hP, hD, hA, hZ⟩ := hv
  have V : cl_V D dA (ad0, cl_n σ0) ad0 A s.heap σ0 s s.heap [] := ⟨hN, hK, hP, hD, va_S.rf, hA, hZ, fun _ _ => rfl, Nat.le_refl _⟩
  obtain ⟨ad, V, e0, e1⟩ : ∃ ad, cl_V D dA (ad0, cl_n σ0) ad A s.heap σ0 s s.heap [] ∧ cl_at ad σ0 a0 o0 ∧ cl_at ad σ0 a1 o1 := ⟨ad0, V, e0, e1⟩
  replace hl : lv_has ls 7 [(0, .ref a0), (1, .ref a1), (2, .int p1), (3, .int p2), (4, .int p3)] := hl
  unfold cl_X3_go at hF
  have hL36 : ∀ (v4 : Int32) (n : Nat) (v5 : Int32) (σ : cl_S) (ad : Nat → Nat) (H : Heap) (locs : List Loc) (ls : Array Slot), dx_lp (fun x => cl_X3_go_L36 o0 o1 x.2 v4 x.1) n (v5, σ) = some (r, σ') → cl_at ad σ a0 o0 → cl_at ad σ a1 o1 → cl_V D dA (ad0, cl_n σ0) ad A s.heap σ s H locs → lv_has ls 7 [(0, .ref a0), (1, .ref a1), (4, .int v4), (5, .int v5)] → W p l e ({ frames := 5, cells := 0, slots := 0, locals := 114 }) s m ([.ref a0, .ref a1, .int p1, .int p2, .int p3] : List Value).toArray below meth c H locs 0 0 (MQ below (cl_Qr D dA ad0 A σ0 σ' r) ([.ref a0, .ref a1, .int p1, .int p2, .int p3] : List Value).toArray s 0 0 A) (F0 m 36 ls []) := by
    intro v4 n
    induction n with
    | zero =>
      intro v5 σ ad H locs ls hF e0 e1 V hl
      exact (dx_lp_0 hF).elim
    | succ n ih36 =>
      intro v5 σ ad H locs ls hF e0 e1 V hl
      obtain ⟨y36, hF, hz36⟩ := dx_lp_s hF
      replace hF : cl_X3_go_L36 o0 o1 σ v4 v5 = some y36 := hF
      unfold cl_X3_go_L36 at hF
      have hL46 : ∀ (v5 : Int32) (n : Nat) (v6 : Int32) (σ : cl_S) (ad : Nat → Nat) (H : Heap) (locs : List Loc) (ls : Array Slot), dx_lp (fun x => cl_X3_go_L46 o0 o1 x.2 v4 v5 x.1) n (v6, σ) = some y36 → cl_at ad σ a0 o0 → cl_at ad σ a1 o1 → cl_V D dA (ad0, cl_n σ0) ad A s.heap σ s H locs → lv_has ls 7 [(0, .ref a0), (1, .ref a1), (4, .int v4), (5, .int v5), (6, .int v6)] → W p l e ({ frames := 5, cells := 0, slots := 0, locals := 114 }) s m ([.ref a0, .ref a1, .int p1, .int p2, .int p3] : List Value).toArray below meth c H locs 0 0 (MQ below (cl_Qr D dA ad0 A σ0 σ' r) ([.ref a0, .ref a1, .int p1, .int p2, .int p3] : List Value).toArray s 0 0 A) (F0 m 46 ls []) := by
        intro v5 n
        induction n with
        | zero =>
          intro v6 σ ad H locs ls hF e0 e1 V hl
          exact (dx_lp_0 hF).elim
        | succ n ih46 =>
          intro v6 σ ad H locs ls hF e0 e1 V hl
          obtain ⟨y46, hF, hz46⟩ := dx_lp_s hF
          replace hF : cl_X3_go_L46 o0 o1 σ v4 v5 v6 = some y46 := hF
          unfold cl_X3_go_L46 at hF
          refine lv_iload hx hb dX3_go_46 (lv_at hl 4 rfl) ?_
          refine lv_aload_n hx hb dX3_go_48 rfl (lv_at hl 1 rfl) ?_
          obtain ⟨hg, hF⟩ := dx_gd_some hF
          have k5 := of_decide_eq_true hg
          refine cl_gi S V e1 k5 rfl (by decide) in_X2 1 (by decide) rfl q155 rfl dX3_go_49 ?_
          refine lv_icmp_ge (tgt := 90) hx hb dX3_go_52 (by decide) (fun hc => ?_) (fun hc => ?_)
          · replace hF := (if_pos hc).symm.trans hF
            replace hF := dx_ex_k hF hz46
            refine lv_iinc (v := (v5 + (1 : Int32))) (lv' := [(5, .int (v5 + (1 : Int32))), (0, .ref a0), (1, .ref a1), (4, .int v4), (6, .int v6)]) hx hb dX3_go_90 hl (k := 3) rfl rfl (by decide) rfl (fun ls hl => ?_)
            refine lv_goto (tgt := 36) hx hb dX3_go_93 (by decide) ?_
            replace hF := Option.some.inj hF
            subst hF
            exact ih36 (v5 + (1 : Int32)) σ _ _ _ _ (dx_lk_l hz36) e0 e1 V (lv_sub hl [1, 2, 3, 0] rfl)
          · replace hF := (if_neg hc).symm.trans hF
            refine lv_aload_n hx hb dX3_go_55 rfl (lv_at hl 1 rfl) ?_
            obtain ⟨hg, hF⟩ := dx_gd_some hF
            refine cl_gr S V e1 k5 rfl (by decide) in_X2 8 (by decide) rfl q180 rfl dX3_go_56 (of_decide_eq_true hg) (fun bb6 ee6 => ?_)
            refine lv_iload hx hb dX3_go_59 (lv_at hl 4 rfl) ?_
            obtain ⟨hg, hF⟩ := dx_gd_some hF
            have k7 := of_decide_eq_true hg
            obtain ⟨hg, hF⟩ := dx_gd_some hF
            refine cl_ld S V ee6 k7 (dx_inb_in hg) dX3_go_61 ?_
            refine lv_iload hx hb dX3_go_62 (lv_at hl 3 rfl) ?_
            refine lv_icmp_ne (tgt := 84) hx hb dX3_go_64 (by decide) (fun hc => ?_) (fun hc => ?_)
            · replace hF := (if_neg hc).symm.trans hF
              refine lv_iinc (v := (v6 + (1 : Int32))) (lv' := [(6, .int (v6 + (1 : Int32))), (0, .ref a0), (1, .ref a1), (4, .int v4), (5, .int v5)]) hx hb dX3_go_84 hl (k := 4) rfl rfl (by decide) rfl (fun ls hl => ?_)
              refine lv_goto (tgt := 46) hx hb dX3_go_87 (by decide) ?_
              replace hF := Option.some.inj hF
              subst hF
              exact ih46 (v6 + (1 : Int32)) σ _ _ _ _ (dx_lk_l hz46) e0 e1 V (lv_sub hl [1, 2, 3, 4, 0] rfl)
            · replace hF := (if_pos hc).symm.trans hF
              refine lv_iload hx hb dX3_go_67 (lv_at hl 2 rfl) ?_
              refine lv_iload hx hb dX3_go_69 (lv_at hl 4 rfl) ?_
              obtain ⟨r8, h8c, hF⟩ := dx_b1_some hF
              refine dx_cPNi S [.int v4, .int v6] (cm_X0_has l v4 v6 _ h8c) ⟨va_cnB 2 hts (lw_meth q1161) rfl rfl rfl (V.1.1 _ cn_q1159) (hts _ q77) cd_X0_has ⟨Nat.le_of_ble_eq_true rfl, Nat.le_of_ble_eq_true rfl⟩, hts _ q1160, trivial⟩ rfl rfl hl.1 (Nat.le_of_ble_eq_true rfl) dX3_go_71 ⟨Nat.le_of_ble_eq_true rfl, Nat.le_of_ble_eq_true rfl⟩ ?_
              refine lv_if_ne (tgt := 84) hx hb dX3_go_74 (by decide) (fun hc => ?_) (fun hc => ?_)
              · replace hF := dx_ib_t (dx_bI_n hc) hF
                refine lv_iinc (v := (v6 + (1 : Int32))) (lv' := [(6, .int (v6 + (1 : Int32))), (0, .ref a0), (1, .ref a1), (4, .int v4), (5, .int v5)]) hx hb dX3_go_84 hl (k := 4) rfl rfl (by decide) rfl (fun ls hl => ?_)
                refine lv_goto (tgt := 46) hx hb dX3_go_87 (by decide) ?_
                replace hF := Option.some.inj hF
                subst hF
                exact ih46 (v6 + (1 : Int32)) σ _ _ _ _ (dx_lk_l hz46) e0 e1 V (lv_sub hl [1, 2, 3, 4, 0] rfl)
              · replace hF := dx_ib_f (dx_bI_0 hc) hF
                refine lv_aload_n hx hb dX3_go_77 rfl (lv_at hl 0 rfl) ?_
                refine lv_aload_n hx hb dX3_go_78 rfl (lv_at hl 1 rfl) ?_
                refine lv_iload hx hb dX3_go_79 (lv_at hl 4 rfl) ?_
                obtain ⟨hg, hF⟩ := dx_gd_some hF
                have k10 := of_decide_eq_true hg
                obtain ⟨σ9, h9c, hF⟩ := dx_b1_some hF
                refine cl_cv (va_runV (As := [.ref a1, .int v6]) S (cm_X3_meet l D dA _ A a0 a1 o0 o1 v6 σ _ e0 e1 h9c) (cwV 2 hts (lw_V q1162 q1164 qs22 q80 q1165) rfl rfl rfl ⟨rfl, cd_X3_meet⟩ ⟨Nat.le_of_ble_eq_true rfl, Nat.le_of_ble_eq_true rfl⟩) (cl_preV V [.ref a1, .int v6] e0 k10 rfl (by decide)) rfl rfl hl.1 rfl (lv_room (Nat.le_of_ble_eq_true rfl)) dX3_go_81 ⟨Nat.le_of_ble_eq_true rfl, Nat.le_of_ble_eq_true rfl⟩) V (fun ad _ _ hag hle V => ?_)
                replace e0 := e0.mv hag hle
                replace e1 := e1.mv hag hle
                refine lv_iinc (v := (v6 + (1 : Int32))) (lv' := [(6, .int (v6 + (1 : Int32))), (0, .ref a0), (1, .ref a1), (4, .int v4), (5, .int v5)]) hx hb dX3_go_84 hl (k := 4) rfl rfl (by decide) rfl (fun ls hl => ?_)
                refine lv_goto (tgt := 46) hx hb dX3_go_87 (by decide) ?_
                replace hF := Option.some.inj hF
                subst hF
                exact ih46 (v6 + (1 : Int32)) σ9 _ _ _ _ (dx_lk_l hz46) e0 e1 V (lv_sub hl [1, 2, 3, 4, 0] rfl)
      refine lv_iload hx hb dX3_go_36 (lv_at hl 3 rfl) ?_
      refine lv_bipush (v := 31) hx hb dX3_go_38 (by decide) ?_
      refine lv_icmp_ge (tgt := 96) hx hb dX3_go_40 (by decide) (fun hc => ?_) (fun hc => ?_)
      · replace hF := (if_pos hc).symm.trans hF
        replace hF := dx_ex_k hF hz36
        refine lv_aload_n hx hb dX3_go_96 rfl (lv_at hl 0 rfl) ?_
        obtain ⟨hF1, hF2⟩ := dx_r2 hF
        subst hF1
        subst hF2
        exact cl_rr S V hr (Or.inl ⟨_, rfl⟩) hlocks e0 dX3_go_97
      · replace hF := (if_neg hc).symm.trans hF
        refine lv_iconst (v := 0) hx hb dX3_go_43 (by decide) ?_
        refine lv_istore (lv' := [(6, .int (0 : Int32)), (0, .ref a0), (1, .ref a1), (4, .int v4), (5, .int v5)]) hx hb dX3_go_44 hl (by decide) rfl (fun ls hl => ?_)
        exact hL46 v5 dx_fu (0 : Int32) σ _ _ _ _ hF e0 e1 V (lv_sub hl [1, 2, 3, 4, 0] rfl)
  have hL3 : ∀ (v2 : Int32) (v3 : Int32) (v4 : Int32) (n : Nat) (v5 : Int32) (σ : cl_S) (ad : Nat → Nat) (H : Heap) (locs : List Loc) (ls : Array Slot), dx_lp (fun x => cl_X3_go_L3 o0 o1 x.2 v2 v3 v4 x.1) n (v5, σ) = some (r, σ') → cl_at ad σ a0 o0 → cl_at ad σ a1 o1 → cl_V D dA (ad0, cl_n σ0) ad A s.heap σ s H locs → lv_has ls 7 [(0, .ref a0), (1, .ref a1), (2, .int v2), (3, .int v3), (4, .int v4), (5, .int v5)] → W p l e ({ frames := 5, cells := 0, slots := 0, locals := 114 }) s m ([.ref a0, .ref a1, .int p1, .int p2, .int p3] : List Value).toArray below meth c H locs 0 0 (MQ below (cl_Qr D dA ad0 A σ0 σ' r) ([.ref a0, .ref a1, .int p1, .int p2, .int p3] : List Value).toArray s 0 0 A) (F0 m 3 ls []) := by
    intro v2 v3 v4 n
    induction n with
    | zero =>
      intro v5 σ ad H locs ls hF e0 e1 V hl
      exact (dx_lp_0 hF).elim
    | succ n ih3 =>
      intro v5 σ ad H locs ls hF e0 e1 V hl
      obtain ⟨y3, hF, hz3⟩ := dx_lp_s hF
      replace hF : cl_X3_go_L3 o0 o1 σ v2 v3 v4 v5 = some y3 := hF
      unfold cl_X3_go_L3 at hF
      refine lv_iload hx hb dX3_go_3 (lv_at hl 5 rfl) ?_
      refine lv_bipush (v := 9) hx hb dX3_go_5 (by decide) ?_
      refine lv_icmp_ge (tgt := 24) hx hb dX3_go_7 (by decide) (fun hc => ?_) (fun hc => ?_)
      · replace hF := (if_pos hc).symm.trans hF
        replace hF := dx_ex_k hF hz3
        refine lv_aload_n hx hb dX3_go_24 rfl (lv_at hl 0 rfl) ?_
        obtain ⟨hg, hF⟩ := dx_gd_some hF
        have k1 := of_decide_eq_true hg
        obtain ⟨hg, hF⟩ := dx_gd_some hF
        refine cl_gr S V e0 k1 rfl (by decide) in_X3 0 (by decide) rfl q214 rfl dX3_go_25 (of_decide_eq_true hg) (fun bb2 ee2 => ?_)
        refine lv_iload_n hx hb dX3_go_28 rfl (lv_at hl 2 rfl) ?_
        refine lv_iconst (v := 1) hx hb dX3_go_29 (by decide) ?_
        refine lv_iload_n hx hb dX3_go_30 rfl (lv_at hl 3 rfl) ?_
        refine lv_ishl hx hb dX3_go_31 ?_
        obtain ⟨hg, hF⟩ := dx_gd_some hF
        have k3 := of_decide_eq_true hg
        obtain ⟨hg, hF⟩ := dx_gd_some hF
        refine cl_st S V ee2 k3 (dx_inb_in hg) dX3_go_32 (fun _ _ V => ?_)
        obtain ⟨σ4, eσ4⟩ : ∃ x, x = (cl_wi σ (cl_r σ o0 0) v2.toNatClampNeg ((1 : Int32) <<< (v3 &&& 31))) := ⟨_, rfl⟩
        rw [← eσ4] at V
        replace hF := dx_let_e eσ4 hF
        replace e0 : cl_at ad σ4 a0 o0 := by rw [eσ4]; exact e0
        replace e1 : cl_at ad σ4 a1 o1 := by rw [eσ4]; exact e1
        replace k1 : cl_k σ4 o0 = 3 := by rw [eσ4]; exact k1
        replace k3 : cl_k σ4 (cl_r σ o0 0) = 20 := by rw [eσ4]; exact k3
        refine lv_iconst (v := 0) hx hb dX3_go_33 (by decide) ?_
        refine lv_istore (lv' := [(5, .int (0 : Int32)), (0, .ref a0), (1, .ref a1), (2, .int v2), (3, .int v3), (4, .int v4)]) hx hb dX3_go_34 hl (by decide) rfl (fun ls hl => ?_)
        exact hL36 v4 dx_fu (0 : Int32) σ4 _ _ _ _ hF e0 e1 V (lv_sub hl [1, 2, 5, 0] rfl)
      · replace hF := (if_neg hc).symm.trans hF
        refine lv_aload_n hx hb dX3_go_10 rfl (lv_at hl 0 rfl) ?_
        obtain ⟨hg, hF⟩ := dx_gd_some hF
        have k11 := of_decide_eq_true hg
        obtain ⟨hg, hF⟩ := dx_gd_some hF
        refine cl_gr S V e0 k11 rfl (by decide) in_X3 0 (by decide) rfl q214 rfl dX3_go_11 (of_decide_eq_true hg) (fun bb12 ee12 => ?_)
        refine lv_iload hx hb dX3_go_14 (lv_at hl 5 rfl) ?_
        refine lv_iconst (v := 0) hx hb dX3_go_16 (by decide) ?_
        obtain ⟨hg, hF⟩ := dx_gd_some hF
        have k13 := of_decide_eq_true hg
        obtain ⟨hg, hF⟩ := dx_gd_some hF
        refine cl_st S V ee12 k13 (dx_inb_in hg) dX3_go_17 (fun _ _ V => ?_)
        obtain ⟨σ14, eσ14⟩ : ∃ x, x = (cl_wi σ (cl_r σ o0 0) v5.toNatClampNeg (0 : Int32)) := ⟨_, rfl⟩
        rw [← eσ14] at V
        replace hF := dx_let_e eσ14 hF
        replace e0 : cl_at ad σ14 a0 o0 := by rw [eσ14]; exact e0
        replace e1 : cl_at ad σ14 a1 o1 := by rw [eσ14]; exact e1
        replace k11 : cl_k σ14 o0 = 3 := by rw [eσ14]; exact k11
        replace k13 : cl_k σ14 (cl_r σ o0 0) = 20 := by rw [eσ14]; exact k13
        refine lv_iinc (v := (v5 + (1 : Int32))) (lv' := [(5, .int (v5 + (1 : Int32))), (0, .ref a0), (1, .ref a1), (2, .int v2), (3, .int v3), (4, .int v4)]) hx hb dX3_go_18 hl (k := 5) rfl rfl (by decide) rfl (fun ls hl => ?_)
        refine lv_goto (tgt := 3) hx hb dX3_go_21 (by decide) ?_
        replace hF := Option.some.inj hF
        subst hF
        exact ih3 (v5 + (1 : Int32)) σ14 _ _ _ _ (dx_lk_l hz3) e0 e1 V (lv_sub hl [1, 2, 3, 4, 5, 0] rfl)
  refine lv_iconst (v := 0) hx hb dX3_go_0 (by decide) ?_
  refine lv_istore (lv' := [(5, .int (0 : Int32)), (0, .ref a0), (1, .ref a1), (2, .int p1), (3, .int p2), (4, .int p3)]) hx hb dX3_go_1 hl (by decide) rfl (fun ls hl => ?_)
  exact hL3 p1 p2 p3 dx_fu (0 : Int32) σ0 _ _ _ _ hF e0 e1 V (lv_sub hl [1, 2, 3, 4, 5, 0] rfl)
theorem cd_X0_days : yX0_days.cls ≠ "java/lang/invoke/MethodHandle" ∧ yX0_days.cls ≠ "java/lang/invoke/VarHandle" ∧ (parseMethodDescriptor yX0_days.desc).map (fun d => d.parameters.length) = some 3 := by decide +kernel
set_option maxHeartbeats 4000000 in
set_option maxRecDepth 100000 in
theorem cm_X0_days (l : Launch) (D : va_G) (dA : Nat → ClassId) (ad0 : Nat → Nat) (A : Nat → Prop) (a0 : Nat) (o0 : Nat) (p0 : Int32) (p1 : Int32) (p2 : Int32) (σ0 : cl_S) (r : Int32) (σ' : cl_S) (e0 : cl_at ad0 σ0 a0 o0) (hF : cl_X0_days o0 σ0 p0 p1 p2 = some (r, σ')) : cl_Ci l yX0_days cX0_days 4 .int ({ frames := 6, cells := 0, slots := 0, locals := 140 }) D dA ad0 A [.ref a0, .int p0, .int p1, .int p2] σ0 r σ' := by
  refine cl_in RX0 rfl (by decide) (Nat.le_of_ble_eq_true rfl) ?_
  intro p e s m below meth c ls S hr hlocks hini hv hl
  have hx := S.1
  have hb := S.2.1
  have hown := S.2.2.2.1
  have hts := S.2.2.2.2
  obtain ⟨hN, hK, hP, hD, hA, hZ⟩ := hv
  have V : cl_V D dA (ad0, cl_n σ0) ad0 A s.heap σ0 s s.heap [] := ⟨hN, hK, hP, hD, va_S.rf, hA, hZ, fun _ _ => rfl, Nat.le_refl _⟩
  obtain ⟨ad, V, e0⟩ : ∃ ad, cl_V D dA (ad0, cl_n σ0) ad A s.heap σ0 s s.heap [] ∧ cl_at ad σ0 a0 o0 := ⟨ad0, V, e0⟩
  replace hl : lv_has ls 4 [(0, .ref a0), (1, .int p0), (2, .int p1), (3, .int p2)] := hl
  unfold cl_X0_days at hF
  refine lv_aload_n hx hb dX0_days_0 rfl (lv_at hl 0 rfl) ?_
  refine lv_iload_n hx hb dX0_days_1 rfl (lv_at hl 1 rfl) ?_
  refine lv_iload_n hx hb dX0_days_2 rfl (lv_at hl 2 rfl) ?_
  refine lv_iload_n hx hb dX0_days_3 rfl (lv_at hl 3 rfl) ?_
  obtain ⟨hg, hF⟩ := dx_gd_some hF
  have k2 := of_decide_eq_true hg
  obtain ⟨r1, h1c, hF⟩ := dx_b1_some hF
  refine cl_ci (va_runV (As := [.int p0, .int p1, .int p2]) S (cm_X0_areSo l D dA _ A a0 o0 p0 p1 p2 σ0 _ e0 h1c) (cwV 3 hts (lw_V q1151 q1153 qs21 q77 q1154) rfl rfl rfl ⟨rfl, cd_X0_areSo⟩ ⟨Nat.le_of_ble_eq_true rfl, Nat.le_of_ble_eq_true rfl⟩) (cl_preV V [.int p0, .int p1, .int p2] e0 k2 rfl (by decide)) rfl rfl hl.1 rfl (lv_room (Nat.le_of_ble_eq_true rfl)) dX0_days_4 ⟨Nat.le_of_ble_eq_true rfl, Nat.le_of_ble_eq_true rfl⟩) V (fun ad _ _ hag hle V => ?_)
  replace e0 := e0.mv hag hle
  refine lv_if_eq (tgt := 32) hx hb dX0_days_7 (by decide) (fun hc => ?_) (fun hc => ?_)
  · replace hF := dx_ib_f (dx_bI_0 hc) hF
    refine lv_ldc hx hb hown (hts _ q406) dX0_days_32 ?_
    obtain ⟨hF1, hF2⟩ := dx_r2 hF
    subst hF1
    subst hF2
    exact cl_ri S V hr hlocks rfl dX0_days_34
  · replace hF := dx_ib_t (dx_bI_n hc) hF
    refine lv_aload_n hx hb dX0_days_10 rfl (lv_at hl 0 rfl) ?_
    obtain ⟨hg, hF⟩ := dx_gd_some hF
    refine cl_gr S V e0 k2 rfl (by decide) in_X0 6 (by decide) rfl q274 rfl dX0_days_11 (of_decide_eq_true hg) (fun bb3 ee3 => ?_)
    refine lv_aload_n hx hb dX0_days_14 rfl (lv_at hl 0 rfl) ?_
    obtain ⟨hg, hF⟩ := dx_gd_some hF
    refine cl_gr S V e0 k2 rfl (by decide) in_X0 4 (by decide) rfl q272 rfl dX0_days_15 (of_decide_eq_true hg) (fun bb4 ee4 => ?_)
    refine lv_iload_n hx hb dX0_days_18 rfl (lv_at hl 1 rfl) ?_
    refine lv_iload_n hx hb dX0_days_19 rfl (lv_at hl 2 rfl) ?_
    refine lv_iconst (v := 0) hx hb dX0_days_20 (by decide) ?_
    obtain ⟨hg, hF⟩ := dx_gd_some hF
    have k6 := of_decide_eq_true hg
    obtain ⟨r5, σ5, h5c, hF⟩ := dx_b2_some hF
    obtain ⟨hg, hF⟩ := dx_gd_some hF
    refine cl_cr (va_runV (As := [.ref bb4, .int p0, .int p1, .int (0 : Int32)]) S (cm_X3_go l D dA _ A bb3 bb4 (cl_r σ0 o0 6) (cl_r σ0 o0 4) p0 p1 (0 : Int32) σ0 _ _ ee3 ee4 h5c) (cwV 4 hts (lw_V q1155 q1156 q1157 q80 q1158) rfl rfl rfl ⟨rfl, cd_X3_go⟩ ⟨Nat.le_of_ble_eq_true rfl, Nat.le_of_ble_eq_true rfl⟩) (cl_preV V [.ref bb4, .int p0, .int p1, .int (0 : Int32)] ee3 k6 rfl (by decide)) rfl rfl hl.1 rfl (lv_room (Nat.le_of_ble_eq_true rfl)) dX0_days_21 ⟨Nat.le_of_ble_eq_true rfl, Nat.le_of_ble_eq_true rfl⟩) V (of_decide_eq_true hg) (fun bb5 ad _ _ hag hle ee5 V => ?_)
    replace e0 := e0.mv hag hle
    obtain ⟨hg, hF⟩ := dx_gd_some hF
    have k7 := of_decide_eq_true hg
    obtain ⟨hg, hF⟩ := dx_gd_some hF
    refine cl_gr S V ee5 k7 rfl (by decide) in_X3 0 (by decide) rfl q215 rfl dX0_days_24 (of_decide_eq_true hg) (fun bb8 ee8 => ?_)
    refine lv_iload_n hx hb dX0_days_27 rfl (lv_at hl 3 rfl) ?_
    obtain ⟨hg, hF⟩ := dx_gd_some hF
    have k9 := of_decide_eq_true hg
    obtain ⟨hg, hF⟩ := dx_gd_some hF
    refine cl_ld S V ee8 k9 (dx_inb_in hg) dX0_days_28 ?_
    refine lv_goto (tgt := 34) hx hb dX0_days_29 (by decide) ?_
    obtain ⟨hF1, hF2⟩ := dx_r2 hF
    subst hF1
    subst hF2
    exact cl_ri S V hr hlocks rfl dX0_days_34
theorem cd_X0_givers : yX0_givers.cls ≠ "java/lang/invoke/MethodHandle" ∧ yX0_givers.cls ≠ "java/lang/invoke/VarHandle" ∧ (parseMethodDescriptor yX0_givers.desc).map (fun d => d.parameters.length) = some 3 := by decide +kernel
set_option maxHeartbeats 4000000 in
set_option maxRecDepth 100000 in
theorem cm_X0_givers (l : Launch) (D : va_G) (dA : Nat → ClassId) (ad0 : Nat → Nat) (A : Nat → Prop) (a0 : Nat) (o0 : Nat) (p0 : Int32) (p1 : Int32) (p2 : Int32) (σ0 : cl_S) (r : Int32) (σ' : cl_S) (e0 : cl_at ad0 σ0 a0 o0) (hF : cl_X0_givers o0 σ0 p0 p1 p2 = some (r, σ')) : cl_Ci l yX0_givers cX0_givers 7 .int ({ frames := 6, cells := 0, slots := 0, locals := 140 }) D dA ad0 A [.ref a0, .int p0, .int p1, .int p2] σ0 r σ' := by
  refine cl_in RX0 rfl (by decide) (Nat.le_of_ble_eq_true rfl) ?_
  intro p e s m below meth c ls S hr hlocks hini hv hl
  have hx := S.1
  have hb := S.2.1
  have hown := S.2.2.2.1
  have hts := S.2.2.2.2
  obtain ⟨hN, hK, hP, hD, hA, hZ⟩ := hv
  have V : cl_V D dA (ad0, cl_n σ0) ad0 A s.heap σ0 s s.heap [] := ⟨hN, hK, hP, hD, va_S.rf, hA, hZ, fun _ _ => rfl, Nat.le_refl _⟩
  obtain ⟨ad, V, e0⟩ : ∃ ad, cl_V D dA (ad0, cl_n σ0) ad A s.heap σ0 s s.heap [] ∧ cl_at ad σ0 a0 o0 := ⟨ad0, V, e0⟩
  replace hl : lv_has ls 7 [(0, .ref a0), (1, .int p0), (2, .int p1), (3, .int p2)] := hl
  unfold cl_X0_givers at hF
  have hL34 : ∀ (σ : cl_S) (v3 : Int32) (n : Nat) (v4 : Int32) (v5 : Int32) (ad : Nat → Nat) (H : Heap) (locs : List Loc) (ls : Array Slot), dx_lp (fun x => cl_X0_givers_L34 o0 σ v3 x.1 x.2) n (v4, v5) = some (r, σ') → cl_at ad σ a0 o0 → cl_V D dA (ad0, cl_n σ0) ad A s.heap σ s H locs → lv_has ls 7 [(0, .ref a0), (3, .int v3), (4, .int v4), (5, .int v5)] → W p l e ({ frames := 6, cells := 0, slots := 0, locals := 140 }) s m ([.ref a0, .int p0, .int p1, .int p2] : List Value).toArray below meth c H locs 0 0 (MQ below (cl_Qi D dA ad0 A σ0 σ' r) ([.ref a0, .int p0, .int p1, .int p2] : List Value).toArray s 0 0 A) (F0 m 34 ls []) := by
    intro σ v3 n
    induction n with
    | zero =>
      intro v4 v5 ad H locs ls hF e0 V hl
      exact (dx_lp_0 hF).elim
    | succ n ih34 =>
      intro v4 v5 ad H locs ls hF e0 V hl
      obtain ⟨y34, hF, hz34⟩ := dx_lp_s hF
      replace hF : cl_X0_givers_L34 o0 σ v3 v4 v5 = some y34 := hF
      unfold cl_X0_givers_L34 at hF
      refine lv_iload hx hb dX0_givers_34 (lv_at hl 3 rfl) ?_
      refine lv_aload_n hx hb dX0_givers_36 rfl (lv_at hl 0 rfl) ?_
      obtain ⟨hg, hF⟩ := dx_gd_some hF
      have k7 := of_decide_eq_true hg
      obtain ⟨hg, hF⟩ := dx_gd_some hF
      refine cl_gr S V e0 k7 rfl (by decide) in_X0 4 (by decide) rfl q272 rfl dX0_givers_37 (of_decide_eq_true hg) (fun bb8 ee8 => ?_)
      obtain ⟨hg, hF⟩ := dx_gd_some hF
      have k9 := of_decide_eq_true hg
      refine cl_gi S V ee8 k9 rfl (by decide) in_X2 1 (by decide) rfl q157 rfl dX0_givers_40 ?_
      refine lv_icmp_ge (tgt := 108) hx hb dX0_givers_43 (by decide) (fun hc => ?_) (fun hc => ?_)
      · replace hF := (if_pos hc).symm.trans hF
        replace hF := dx_ex_k hF hz34
        refine lv_iload hx hb dX0_givers_108 (lv_at hl 2 rfl) ?_
        obtain ⟨hF1, hF2⟩ := dx_r2 hF
        subst hF1
        subst hF2
        exact cl_ri S V hr hlocks rfl dX0_givers_110
      · replace hF := (if_neg hc).symm.trans hF
        refine lv_aload_n hx hb dX0_givers_46 rfl (lv_at hl 0 rfl) ?_
        obtain ⟨hg, hF⟩ := dx_gd_some hF
        refine cl_gr S V e0 k7 rfl (by decide) in_X0 4 (by decide) rfl q272 rfl dX0_givers_47 (of_decide_eq_true hg) (fun bb10 ee10 => ?_)
        refine lv_iload hx hb dX0_givers_50 (lv_at hl 3 rfl) ?_
        refine lv_iload_n hx hb dX0_givers_52 rfl (lv_at hl 1 rfl) ?_
        obtain ⟨r11, h11c, hF⟩ := dx_b1_some hF
        refine cl_ci (va_runV (As := [.int v5, .int v3]) S (cm_X2_otherOf l D dA _ A bb10 (cl_r σ o0 4) v5 v3 σ _ ee10 h11c) (cwV 2 hts (lw_V q1209 q1171 q1172 q79 q1173) rfl rfl rfl ⟨rfl, cd_X2_otherOf⟩ ⟨Nat.le_of_ble_eq_true rfl, Nat.le_of_ble_eq_true rfl⟩) (cl_preV V [.int v5, .int v3] ee10 k9 rfl (by decide)) rfl rfl hl.1 rfl (lv_room (Nat.le_of_ble_eq_true rfl)) dX0_givers_53 ⟨Nat.le_of_ble_eq_true rfl, Nat.le_of_ble_eq_true rfl⟩) V (fun ad _ _ hag hle V => ?_)
        replace e0 := e0.mv hag hle
        refine lv_istore (lv' := [(6, .int r11), (0, .ref a0), (3, .int v3), (4, .int v4), (5, .int v5)]) hx hb dX0_givers_56 hl (by decide) rfl (fun ls hl => ?_)
        refine lv_iload hx hb dX0_givers_58 (lv_at hl 3 rfl) ?_
        refine lv_iload hx hb dX0_givers_60 (lv_at hl 0 rfl) ?_
        refine lv_ldc hx hb hown (hts _ q1134) dX0_givers_62 ?_
        refine lv_icmp_eq (tgt := 98) hx hb dX0_givers_64 (by decide) (fun hc => ?_) (fun hc => ?_)
        · replace hF := (if_pos hc).symm.trans hF
          refine lv_iconst (v := 0) hx hb dX0_givers_98 (by decide) ?_
          refine lv_ior hx hb dX0_givers_99 ?_
          refine lv_istore (lv' := [(4, .int (v4 ||| (0 : Int32))), (6, .int r11), (0, .ref a0), (3, .int v3), (5, .int v5)]) hx hb dX0_givers_100 hl (by decide) rfl (fun ls hl => ?_)
          refine lv_iinc (v := (v5 + (1 : Int32))) (lv' := [(5, .int (v5 + (1 : Int32))), (4, .int (v4 ||| (0 : Int32))), (6, .int r11), (0, .ref a0), (3, .int v3)]) hx hb dX0_givers_102 hl (k := 4) rfl rfl (by decide) rfl (fun ls hl => ?_)
          refine lv_goto (tgt := 34) hx hb dX0_givers_105 (by decide) ?_
          replace hF := Option.some.inj hF
          subst hF
          exact ih34 (v4 ||| (0 : Int32)) (v5 + (1 : Int32)) _ _ _ _ (dx_lk_l hz34) e0 V (lv_sub hl [3, 4, 1, 0] rfl)
        · replace hF := (if_neg hc).symm.trans hF
          refine lv_aload_n hx hb dX0_givers_67 rfl (lv_at hl 1 rfl) ?_
          obtain ⟨hg, hF⟩ := dx_gd_some hF
          refine cl_gr S V e0 k7 rfl (by decide) in_X0 4 (by decide) rfl q272 rfl dX0_givers_68 (of_decide_eq_true hg) (fun bb12 ee12 => ?_)
          refine lv_iload hx hb dX0_givers_71 (lv_at hl 4 rfl) ?_
          refine lv_iload hx hb dX0_givers_73 (lv_at hl 0 rfl) ?_
          refine lv_aload_n hx hb dX0_givers_75 rfl (lv_at hl 1 rfl) ?_
          obtain ⟨hg, hF⟩ := dx_gd_some hF
          refine cl_gr S V e0 k7 rfl (by decide) in_X0 6 (by decide) rfl q274 rfl dX0_givers_76 (of_decide_eq_true hg) (fun bb13 ee13 => ?_)
          obtain ⟨hg, hF⟩ := dx_gd_some hF
          have k14 := of_decide_eq_true hg
          obtain ⟨hg, hF⟩ := dx_gd_some hF
          refine cl_gr S V ee13 k14 rfl (by decide) in_X3 0 (by decide) rfl q215 rfl dX0_givers_79 (of_decide_eq_true hg) (fun bb15 ee15 => ?_)
          refine lv_iload hx hb dX0_givers_82 (lv_at hl 0 rfl) ?_
          obtain ⟨hg, hF⟩ := dx_gd_some hF
          have k16 := of_decide_eq_true hg
          obtain ⟨hg, hF⟩ := dx_gd_some hF
          refine cl_ld S V ee15 k16 (dx_inb_in hg) dX0_givers_84 ?_
          obtain ⟨r17, h17c, hF⟩ := dx_b1_some hF
          refine cl_ci (va_runV (As := [.int v5, .int r11, .int (cl_i σ (cl_r σ (cl_r σ o0 6) 0) r11.toNatClampNeg)]) S (cm_X2_gives l D dA _ A bb12 (cl_r σ o0 4) v5 r11 (cl_i σ (cl_r σ (cl_r σ o0 6) 0) r11.toNatClampNeg) σ _ ee12 h17c) (cwV 3 hts (lw_V q1210 q1167 q1168 q79 q1169) rfl rfl rfl ⟨rfl, cd_X2_gives⟩ ⟨Nat.le_of_ble_eq_true rfl, Nat.le_of_ble_eq_true rfl⟩) (cl_preV V [.int v5, .int r11, .int (cl_i σ (cl_r σ (cl_r σ o0 6) 0) r11.toNatClampNeg)] ee12 k9 rfl (by decide)) rfl rfl hl.1 rfl (lv_room (Nat.le_of_ble_eq_true rfl)) dX0_givers_85 ⟨Nat.le_of_ble_eq_true rfl, Nat.le_of_ble_eq_true rfl⟩) V (fun ad _ _ hag hle V => ?_)
          replace e0 := e0.mv hag hle
          refine lv_if_eq (tgt := 98) hx hb dX0_givers_88 (by decide) (fun hc => ?_) (fun hc => ?_)
          · replace hF := dx_ib_f (dx_bI_0 hc) hF
            refine lv_iconst (v := 0) hx hb dX0_givers_98 (by decide) ?_
            refine lv_ior hx hb dX0_givers_99 ?_
            refine lv_istore (lv' := [(4, .int (v4 ||| (0 : Int32))), (6, .int r11), (0, .ref a0), (3, .int v3), (5, .int v5)]) hx hb dX0_givers_100 hl (by decide) rfl (fun ls hl => ?_)
            refine lv_iinc (v := (v5 + (1 : Int32))) (lv' := [(5, .int (v5 + (1 : Int32))), (4, .int (v4 ||| (0 : Int32))), (6, .int r11), (0, .ref a0), (3, .int v3)]) hx hb dX0_givers_102 hl (k := 4) rfl rfl (by decide) rfl (fun ls hl => ?_)
            refine lv_goto (tgt := 34) hx hb dX0_givers_105 (by decide) ?_
            replace hF := Option.some.inj hF
            subst hF
            exact ih34 (v4 ||| (0 : Int32)) (v5 + (1 : Int32)) _ _ _ _ (dx_lk_l hz34) e0 V (lv_sub hl [3, 4, 1, 0] rfl)
          · replace hF := dx_ib_t (dx_bI_n hc) hF
            refine lv_iconst (v := 1) hx hb dX0_givers_91 (by decide) ?_
            refine lv_iload hx hb dX0_givers_92 (lv_at hl 0 rfl) ?_
            refine lv_ishl hx hb dX0_givers_94 ?_
            refine lv_goto (tgt := 99) hx hb dX0_givers_95 (by decide) ?_
            refine lv_ior hx hb dX0_givers_99 ?_
            refine lv_istore (lv' := [(4, .int (v4 ||| ((1 : Int32) <<< (r11 &&& 31)))), (6, .int r11), (0, .ref a0), (3, .int v3), (5, .int v5)]) hx hb dX0_givers_100 hl (by decide) rfl (fun ls hl => ?_)
            refine lv_iinc (v := (v5 + (1 : Int32))) (lv' := [(5, .int (v5 + (1 : Int32))), (4, .int (v4 ||| ((1 : Int32) <<< (r11 &&& 31)))), (6, .int r11), (0, .ref a0), (3, .int v3)]) hx hb dX0_givers_102 hl (k := 4) rfl rfl (by decide) rfl (fun ls hl => ?_)
            refine lv_goto (tgt := 34) hx hb dX0_givers_105 (by decide) ?_
            replace hF := Option.some.inj hF
            subst hF
            exact ih34 (v4 ||| ((1 : Int32) <<< (r11 &&& 31))) (v5 + (1 : Int32)) _ _ _ _ (dx_lk_l hz34) e0 V (lv_sub hl [3, 4, 1, 0] rfl)
  refine lv_aload_n hx hb dX0_givers_0 rfl (lv_at hl 0 rfl) ?_
  refine lv_iload_n hx hb dX0_givers_1 rfl (lv_at hl 1 rfl) ?_
  refine lv_iload_n hx hb dX0_givers_2 rfl (lv_at hl 2 rfl) ?_
  refine lv_iload_n hx hb dX0_givers_3 rfl (lv_at hl 3 rfl) ?_
  obtain ⟨hg, hF⟩ := dx_gd_some hF
  have k2 := of_decide_eq_true hg
  obtain ⟨r1, h1c, hF⟩ := dx_b1_some hF
  refine cl_ci (va_runV (As := [.int p0, .int p1, .int p2]) S (cm_X0_areSo l D dA _ A a0 o0 p0 p1 p2 σ0 _ e0 h1c) (cwV 3 hts (lw_V q1151 q1153 qs21 q77 q1154) rfl rfl rfl ⟨rfl, cd_X0_areSo⟩ ⟨Nat.le_of_ble_eq_true rfl, Nat.le_of_ble_eq_true rfl⟩) (cl_preV V [.int p0, .int p1, .int p2] e0 k2 rfl (by decide)) rfl rfl hl.1 rfl (lv_room (Nat.le_of_ble_eq_true rfl)) dX0_givers_4 ⟨Nat.le_of_ble_eq_true rfl, Nat.le_of_ble_eq_true rfl⟩) V (fun ad _ _ hag hle V => ?_)
  replace e0 := e0.mv hag hle
  refine lv_if_ne (tgt := 13) hx hb dX0_givers_7 (by decide) (fun hc => ?_) (fun hc => ?_)
  · replace hF := dx_ib_t (dx_bI_n hc) hF
    refine lv_aload_n hx hb dX0_givers_13 rfl (lv_at hl 0 rfl) ?_
    obtain ⟨hg, hF⟩ := dx_gd_some hF
    refine cl_gr S V e0 k2 rfl (by decide) in_X0 6 (by decide) rfl q274 rfl dX0_givers_14 (of_decide_eq_true hg) (fun bb3 ee3 => ?_)
    refine lv_aload_n hx hb dX0_givers_17 rfl (lv_at hl 0 rfl) ?_
    obtain ⟨hg, hF⟩ := dx_gd_some hF
    refine cl_gr S V e0 k2 rfl (by decide) in_X0 4 (by decide) rfl q272 rfl dX0_givers_18 (of_decide_eq_true hg) (fun bb4 ee4 => ?_)
    refine lv_iload_n hx hb dX0_givers_21 rfl (lv_at hl 1 rfl) ?_
    refine lv_iload_n hx hb dX0_givers_22 rfl (lv_at hl 2 rfl) ?_
    refine lv_iconst (v := 0) hx hb dX0_givers_23 (by decide) ?_
    obtain ⟨hg, hF⟩ := dx_gd_some hF
    have k6 := of_decide_eq_true hg
    obtain ⟨r5, σ5, h5c, hF⟩ := dx_b2_some hF
    obtain ⟨hg, hF⟩ := dx_gd_some hF
    refine cl_cr (va_runV (As := [.ref bb4, .int p0, .int p1, .int (0 : Int32)]) S (cm_X3_go l D dA _ A bb3 bb4 (cl_r σ0 o0 6) (cl_r σ0 o0 4) p0 p1 (0 : Int32) σ0 _ _ ee3 ee4 h5c) (cwV 4 hts (lw_V q1155 q1156 q1157 q80 q1158) rfl rfl rfl ⟨rfl, cd_X3_go⟩ ⟨Nat.le_of_ble_eq_true rfl, Nat.le_of_ble_eq_true rfl⟩) (cl_preV V [.ref bb4, .int p0, .int p1, .int (0 : Int32)] ee3 k6 rfl (by decide)) rfl rfl hl.1 rfl (lv_room (Nat.le_of_ble_eq_true rfl)) dX0_givers_24 ⟨Nat.le_of_ble_eq_true rfl, Nat.le_of_ble_eq_true rfl⟩) V (of_decide_eq_true hg) (fun bb5 ad _ _ hag hle ee5 V => ?_)
    replace e0 := e0.mv hag hle
    refine lv_pop hx hb dX0_givers_27 rfl ?_
    refine lv_iconst (v := 0) hx hb dX0_givers_28 (by decide) ?_
    refine lv_istore (lv' := [(4, .int (0 : Int32)), (0, .ref a0), (1, .int p0), (2, .int p1), (3, .int p2)]) hx hb dX0_givers_29 hl (by decide) rfl (fun ls hl => ?_)
    refine lv_iconst (v := 0) hx hb dX0_givers_31 (by decide) ?_
    refine lv_istore (lv' := [(5, .int (0 : Int32)), (4, .int (0 : Int32)), (0, .ref a0), (1, .int p0), (2, .int p1), (3, .int p2)]) hx hb dX0_givers_32 hl (by decide) rfl (fun ls hl => ?_)
    exact hL34 σ5 p2 dx_fu (0 : Int32) (0 : Int32) _ _ _ _ hF e0 V (lv_sub hl [2, 5, 1, 0] rfl)
  · replace hF := dx_ib_f (dx_bI_0 hc) hF
    refine lv_ldc hx hb hown (hts _ q406) dX0_givers_10 ?_
    obtain ⟨hF1, hF2⟩ := dx_r2 hF
    subst hF1
    subst hF2
    exact cl_ri S V hr hlocks rfl dX0_givers_12
theorem cd_X4_comes : yX4_comes.cls ≠ "java/lang/invoke/MethodHandle" ∧ yX4_comes.cls ≠ "java/lang/invoke/VarHandle" ∧ (parseMethodDescriptor yX4_comes.desc).map (fun d => d.parameters.length) = some 4 := by decide +kernel
set_option maxHeartbeats 4000000 in
set_option maxRecDepth 100000 in
theorem cm_X4_comes (l : Launch) (D : va_G) (dA : Nat → ClassId) (ad0 : Nat → Nat) (A : Nat → Prop) (a0 : Nat) (o0 : Nat) (p0 : Int32) (p1 : Int32) (p2 : Int32) (p3 : Int32) (σ0 : cl_S) (σ' : cl_S) (e0 : cl_at ad0 σ0 a0 o0) (hF : cl_X4_comes o0 σ0 p0 p1 p2 p3 = some σ') : cl_Cv l yX4_comes cX4_comes 5 ({ frames := 1, cells := 0, slots := 0, locals := 21 }) D dA ad0 A [.ref a0, .int p0, .int p1, .int p2, .int p3] σ0 σ' := by
  refine cl_in RX4 rfl (by decide) (Nat.le_of_ble_eq_true rfl) ?_
  intro p e s m below meth c ls S hr hlocks hini hv hl
  have hx := S.1
  have hb := S.2.1
  have hown := S.2.2.2.1
  have hts := S.2.2.2.2
  obtain ⟨hN, hK, hP, hD, hA, hZ⟩ := hv
  have V : cl_V D dA (ad0, cl_n σ0) ad0 A s.heap σ0 s s.heap [] := ⟨hN, hK, hP, hD, va_S.rf, hA, hZ, fun _ _ => rfl, Nat.le_refl _⟩
  obtain ⟨ad, V, e0⟩ : ∃ ad, cl_V D dA (ad0, cl_n σ0) ad A s.heap σ0 s s.heap [] ∧ cl_at ad σ0 a0 o0 := ⟨ad0, V, e0⟩
  replace hl : lv_has ls 5 [(0, .ref a0), (1, .int p0), (2, .int p1), (3, .int p2), (4, .int p3)] := hl
  unfold cl_X4_comes at hF
  refine lv_aload_n hx hb dX4_comes_0 rfl (lv_at hl 0 rfl) ?_
  obtain ⟨hg, hF⟩ := dx_gd_some hF
  have k1 := of_decide_eq_true hg
  obtain ⟨hg, hF⟩ := dx_gd_some hF
  refine cl_gr S V e0 k1 rfl (by decide) in_X4 4 (by decide) rfl q229 rfl dX4_comes_1 (of_decide_eq_true hg) (fun bb2 ee2 => ?_)
  refine lv_iload_n hx hb dX4_comes_4 rfl (lv_at hl 1 rfl) ?_
  obtain ⟨hg, hF⟩ := dx_gd_some hF
  have k3 := of_decide_eq_true hg
  obtain ⟨hg, hF⟩ := dx_gd_some hF
  refine cl_ld S V ee2 k3 (dx_inb_in hg) dX4_comes_5 ?_
  refine lv_iload_n hx hb dX4_comes_6 rfl (lv_at hl 2 rfl) ?_
  obtain ⟨r4, h4c, hF⟩ := dx_b1_some hF
  refine dx_cPNi S [.int (cl_i σ0 (cl_r σ0 o0 4) p0.toNatClampNeg), .int p1] (cm_X0_has l (cl_i σ0 (cl_r σ0 o0 4) p0.toNatClampNeg) p1 _ h4c) ⟨va_cnB 2 hts (lw_meth q1161) rfl rfl rfl (V.1.1 _ cn_q1224) (hts _ q77) cd_X0_has ⟨Nat.le_of_ble_eq_true rfl, Nat.le_of_ble_eq_true rfl⟩, hts _ q1160, trivial⟩ rfl rfl hl.1 (Nat.le_of_ble_eq_true rfl) dX4_comes_7 ⟨Nat.le_of_ble_eq_true rfl, Nat.le_of_ble_eq_true rfl⟩ ?_
  refine lv_if_eq (tgt := 14) hx hb dX4_comes_10 (by decide) (fun hc => ?_) (fun hc => ?_)
  · replace hF := dx_ib_f (dx_bI_0 hc) hF
    refine lv_aload_n hx hb dX4_comes_14 rfl (lv_at hl 0 rfl) ?_
    obtain ⟨hg, hF⟩ := dx_gd_some hF
    refine cl_gr S V e0 k1 rfl (by decide) in_X4 4 (by decide) rfl q229 rfl dX4_comes_15 (of_decide_eq_true hg) (fun bb5 ee5 => ?_)
    refine lv_iload_n hx hb dX4_comes_18 rfl (lv_at hl 1 rfl) ?_
    refine lv_dup2_11 hx hb dX4_comes_19 rfl rfl ?_
    obtain ⟨hg, hF⟩ := dx_gd_some hF
    refine cl_ld S V ee5 k3 (dx_inb_in hg) dX4_comes_20 ?_
    refine lv_iconst (v := 1) hx hb dX4_comes_21 (by decide) ?_
    refine lv_iload_n hx hb dX4_comes_22 rfl (lv_at hl 2 rfl) ?_
    refine lv_ishl hx hb dX4_comes_23 ?_
    refine lv_ior hx hb dX4_comes_24 ?_
    obtain ⟨hg, hF⟩ := dx_gd_some hF
    refine cl_st S V ee5 k3 (dx_inb_in hg) dX4_comes_25 (fun _ _ V => ?_)
    obtain ⟨σ6, eσ6⟩ : ∃ x, x = (cl_wi σ0 (cl_r σ0 o0 4) p0.toNatClampNeg ((cl_i σ0 (cl_r σ0 o0 4) p0.toNatClampNeg) ||| ((1 : Int32) <<< (p1 &&& 31)))) := ⟨_, rfl⟩
    rw [← eσ6] at V
    replace hF := dx_let_e eσ6 hF
    replace e0 : cl_at ad σ6 a0 o0 := by rw [eσ6]; exact e0
    replace k1 : cl_k σ6 o0 = 4 := by rw [eσ6]; exact k1
    replace k3 : cl_k σ6 (cl_r σ0 o0 4) = 20 := by rw [eσ6]; exact k3
    refine lv_aload_n hx hb dX4_comes_26 rfl (lv_at hl 0 rfl) ?_
    obtain ⟨hg, hF⟩ := dx_gd_some hF
    refine cl_gr S V e0 k1 rfl (by decide) in_X4 0 (by decide) rfl q225 rfl dX4_comes_27 (of_decide_eq_true hg) (fun bb7 ee7 => ?_)
    refine lv_aload_n hx hb dX4_comes_30 rfl (lv_at hl 0 rfl) ?_
    refine cl_gi S V e0 k1 rfl (by decide) in_X4 5 (by decide) rfl q230 rfl dX4_comes_31 ?_
    refine lv_iload_n hx hb dX4_comes_34 rfl (lv_at hl 1 rfl) ?_
    obtain ⟨hg, hF⟩ := dx_gd_some hF
    have k8 := of_decide_eq_true hg
    obtain ⟨hg, hF⟩ := dx_gd_some hF
    refine cl_st S V ee7 k8 (dx_inb_in hg) dX4_comes_35 (fun _ _ V => ?_)
    obtain ⟨σ9, eσ9⟩ : ∃ x, x = (cl_wi σ6 (cl_r σ6 o0 0) (cl_i σ6 o0 5).toNatClampNeg p0) := ⟨_, rfl⟩
    rw [← eσ9] at V
    replace hF := dx_let_e eσ9 hF
    replace e0 : cl_at ad σ9 a0 o0 := by rw [eσ9]; exact e0
    replace k1 : cl_k σ9 o0 = 4 := by rw [eσ9]; exact k1
    replace k3 : cl_k σ9 (cl_r σ0 o0 4) = 20 := by rw [eσ9]; exact k3
    replace k8 : cl_k σ9 (cl_r σ6 o0 0) = 20 := by rw [eσ9]; exact k8
    refine lv_aload_n hx hb dX4_comes_36 rfl (lv_at hl 0 rfl) ?_
    obtain ⟨hg, hF⟩ := dx_gd_some hF
    refine cl_gr S V e0 k1 rfl (by decide) in_X4 1 (by decide) rfl q226 rfl dX4_comes_37 (of_decide_eq_true hg) (fun bb10 ee10 => ?_)
    refine lv_aload_n hx hb dX4_comes_40 rfl (lv_at hl 0 rfl) ?_
    refine cl_gi S V e0 k1 rfl (by decide) in_X4 5 (by decide) rfl q230 rfl dX4_comes_41 ?_
    refine lv_iload_n hx hb dX4_comes_44 rfl (lv_at hl 2 rfl) ?_
    obtain ⟨hg, hF⟩ := dx_gd_some hF
    have k11 := of_decide_eq_true hg
    obtain ⟨hg, hF⟩ := dx_gd_some hF
    refine cl_st S V ee10 k11 (dx_inb_in hg) dX4_comes_45 (fun _ _ V => ?_)
    obtain ⟨σ12, eσ12⟩ : ∃ x, x = (cl_wi σ9 (cl_r σ9 o0 1) (cl_i σ9 o0 5).toNatClampNeg p1) := ⟨_, rfl⟩
    rw [← eσ12] at V
    replace hF := dx_let_e eσ12 hF
    replace e0 : cl_at ad σ12 a0 o0 := by rw [eσ12]; exact e0
    replace k1 : cl_k σ12 o0 = 4 := by rw [eσ12]; exact k1
    replace k3 : cl_k σ12 (cl_r σ0 o0 4) = 20 := by rw [eσ12]; exact k3
    replace k8 : cl_k σ12 (cl_r σ6 o0 0) = 20 := by rw [eσ12]; exact k8
    replace k11 : cl_k σ12 (cl_r σ9 o0 1) = 20 := by rw [eσ12]; exact k11
    refine lv_aload_n hx hb dX4_comes_46 rfl (lv_at hl 0 rfl) ?_
    obtain ⟨hg, hF⟩ := dx_gd_some hF
    refine cl_gr S V e0 k1 rfl (by decide) in_X4 2 (by decide) rfl q227 rfl dX4_comes_47 (of_decide_eq_true hg) (fun bb13 ee13 => ?_)
    refine lv_aload_n hx hb dX4_comes_50 rfl (lv_at hl 0 rfl) ?_
    refine cl_gi S V e0 k1 rfl (by decide) in_X4 5 (by decide) rfl q230 rfl dX4_comes_51 ?_
    refine lv_iload_n hx hb dX4_comes_54 rfl (lv_at hl 3 rfl) ?_
    obtain ⟨hg, hF⟩ := dx_gd_some hF
    have k14 := of_decide_eq_true hg
    obtain ⟨hg, hF⟩ := dx_gd_some hF
    refine cl_st S V ee13 k14 (dx_inb_in hg) dX4_comes_55 (fun _ _ V => ?_)
    obtain ⟨σ15, eσ15⟩ : ∃ x, x = (cl_wi σ12 (cl_r σ12 o0 2) (cl_i σ12 o0 5).toNatClampNeg p2) := ⟨_, rfl⟩
    rw [← eσ15] at V
    replace hF := dx_let_e eσ15 hF
    replace e0 : cl_at ad σ15 a0 o0 := by rw [eσ15]; exact e0
    replace k1 : cl_k σ15 o0 = 4 := by rw [eσ15]; exact k1
    replace k3 : cl_k σ15 (cl_r σ0 o0 4) = 20 := by rw [eσ15]; exact k3
    replace k8 : cl_k σ15 (cl_r σ6 o0 0) = 20 := by rw [eσ15]; exact k8
    replace k11 : cl_k σ15 (cl_r σ9 o0 1) = 20 := by rw [eσ15]; exact k11
    replace k14 : cl_k σ15 (cl_r σ12 o0 2) = 20 := by rw [eσ15]; exact k14
    refine lv_aload_n hx hb dX4_comes_56 rfl (lv_at hl 0 rfl) ?_
    obtain ⟨hg, hF⟩ := dx_gd_some hF
    refine cl_gr S V e0 k1 rfl (by decide) in_X4 3 (by decide) rfl q228 rfl dX4_comes_57 (of_decide_eq_true hg) (fun bb16 ee16 => ?_)
    refine lv_aload_n hx hb dX4_comes_60 rfl (lv_at hl 0 rfl) ?_
    refine cl_gi S V e0 k1 rfl (by decide) in_X4 5 (by decide) rfl q230 rfl dX4_comes_61 ?_
    refine lv_iload hx hb dX4_comes_64 (lv_at hl 4 rfl) ?_
    obtain ⟨hg, hF⟩ := dx_gd_some hF
    have k17 := of_decide_eq_true hg
    obtain ⟨hg, hF⟩ := dx_gd_some hF
    refine cl_st S V ee16 k17 (dx_inb_in hg) dX4_comes_66 (fun _ _ V => ?_)
    obtain ⟨σ18, eσ18⟩ : ∃ x, x = (cl_wi σ15 (cl_r σ15 o0 3) (cl_i σ15 o0 5).toNatClampNeg p3) := ⟨_, rfl⟩
    rw [← eσ18] at V
    replace hF := dx_let_e eσ18 hF
    replace e0 : cl_at ad σ18 a0 o0 := by rw [eσ18]; exact e0
    replace k1 : cl_k σ18 o0 = 4 := by rw [eσ18]; exact k1
    replace k3 : cl_k σ18 (cl_r σ0 o0 4) = 20 := by rw [eσ18]; exact k3
    replace k8 : cl_k σ18 (cl_r σ6 o0 0) = 20 := by rw [eσ18]; exact k8
    replace k11 : cl_k σ18 (cl_r σ9 o0 1) = 20 := by rw [eσ18]; exact k11
    replace k14 : cl_k σ18 (cl_r σ12 o0 2) = 20 := by rw [eσ18]; exact k14
    replace k17 : cl_k σ18 (cl_r σ15 o0 3) = 20 := by rw [eσ18]; exact k17
    refine lv_aload_n hx hb dX4_comes_67 rfl (lv_at hl 0 rfl) ?_
    refine lv_dup hx hb dX4_comes_68 rfl ?_
    refine cl_gi S V e0 k1 rfl (by decide) in_X4 5 (by decide) rfl q230 rfl dX4_comes_69 ?_
    refine lv_iconst (v := 1) hx hb dX4_comes_72 (by decide) ?_
    refine lv_iadd hx hb dX4_comes_73 ?_
    refine cl_pi S V e0 k1 rfl (by decide) in_X4 tyX4 tyX4_ok nmX4 5 (by decide) rfl q230 rfl rfl rfl dX4_comes_74 (fun _ _ V => ?_)
    obtain ⟨σ19, eσ19⟩ : ∃ x, x = (cl_wi σ18 o0 5 ((cl_i σ18 o0 5) + (1 : Int32))) := ⟨_, rfl⟩
    rw [← eσ19] at V
    replace hF := dx_let_e eσ19 hF
    replace e0 : cl_at ad σ19 a0 o0 := by rw [eσ19]; exact e0
    replace k1 : cl_k σ19 o0 = 4 := by rw [eσ19]; exact k1
    replace k3 : cl_k σ19 (cl_r σ0 o0 4) = 20 := by rw [eσ19]; exact k3
    replace k8 : cl_k σ19 (cl_r σ6 o0 0) = 20 := by rw [eσ19]; exact k8
    replace k11 : cl_k σ19 (cl_r σ9 o0 1) = 20 := by rw [eσ19]; exact k11
    replace k14 : cl_k σ19 (cl_r σ12 o0 2) = 20 := by rw [eσ19]; exact k14
    replace k17 : cl_k σ19 (cl_r σ15 o0 3) = 20 := by rw [eσ19]; exact k17
    replace hF := Option.some.inj hF
    subst hF
    exact cl_rv S V hr hlocks dX4_comes_77
  · replace hF := dx_ib_t (dx_bI_n hc) hF
    replace hF := Option.some.inj hF
    subst hF
    exact cl_rv S V hr hlocks dX4_comes_13
theorem cd_X4_goOn : yX4_goOn.cls ≠ "java/lang/invoke/MethodHandle" ∧ yX4_goOn.cls ≠ "java/lang/invoke/VarHandle" ∧ (parseMethodDescriptor yX4_goOn.desc).map (fun d => d.parameters.length) = some 2 := by decide +kernel
set_option maxHeartbeats 4000000 in
set_option maxRecDepth 100000 in
theorem cm_X4_goOn (l : Launch) (D : va_G) (dA : Nat → ClassId) (ad0 : Nat → Nat) (A : Nat → Prop) (a0 : Nat) (a1 : Nat) (o0 : Nat) (o1 : Nat) (p1 : Int32) (σ0 : cl_S) (σ' : cl_S) (e0 : cl_at ad0 σ0 a0 o0) (e1 : cl_at ad0 σ0 a1 o1) (hF : cl_X4_goOn o0 o1 σ0 p1 = some σ') : cl_Cv l yX4_goOn cX4_goOn 5 ({ frames := 4, cells := 0, slots := 0, locals := 88 }) D dA ad0 A [.ref a0, .ref a1, .int p1] σ0 σ' := by
  refine cl_in RX4 rfl (by decide) (Nat.le_of_ble_eq_true rfl) ?_
  intro p e s m below meth c ls S hr hlocks hini hv hl
  have hx := S.1
  have hb := S.2.1
  have hown := S.2.2.2.1
  have hts := S.2.2.2.2
  obtain ⟨hN, hK, hP, hD, hA, hZ⟩ := hv
  have V : cl_V D dA (ad0, cl_n σ0) ad0 A s.heap σ0 s s.heap [] := ⟨hN, hK, hP, hD, va_S.rf, hA, hZ, fun _ _ => rfl, Nat.le_refl _⟩
  obtain ⟨ad, V, e0, e1⟩ : ∃ ad, cl_V D dA (ad0, cl_n σ0) ad A s.heap σ0 s s.heap [] ∧ cl_at ad σ0 a0 o0 ∧ cl_at ad σ0 a1 o1 := ⟨ad0, V, e0, e1⟩
  replace hl : lv_has ls 5 [(0, .ref a0), (1, .ref a1), (2, .int p1)] := hl
  unfold cl_X4_goOn at hF
  have hL2 : ∀ (v2 : Int32) (n : Nat) (v3 : Int32) (σ : cl_S) (ad : Nat → Nat) (H : Heap) (locs : List Loc) (ls : Array Slot), dx_lp (fun x => cl_X4_goOn_L2 o0 o1 x.2 v2 x.1) n (v3, σ) = some σ' → cl_at ad σ a0 o0 → cl_at ad σ a1 o1 → cl_V D dA (ad0, cl_n σ0) ad A s.heap σ s H locs → lv_has ls 5 [(0, .ref a0), (1, .ref a1), (2, .int v2), (3, .int v3)] → W p l e ({ frames := 4, cells := 0, slots := 0, locals := 88 }) s m ([.ref a0, .ref a1, .int p1] : List Value).toArray below meth c H locs 0 0 (MQ below (cl_Qv D dA ad0 A σ0 σ') ([.ref a0, .ref a1, .int p1] : List Value).toArray s 0 0 A) (F0 m 2 ls []) := by
    intro v2 n
    induction n with
    | zero =>
      intro v3 σ ad H locs ls hF e0 e1 V hl
      exact (dx_lp_0 hF).elim
    | succ n ih2 =>
      intro v3 σ ad H locs ls hF e0 e1 V hl
      obtain ⟨y2, hF, hz2⟩ := dx_lp_s hF
      replace hF : cl_X4_goOn_L2 o0 o1 σ v2 v3 = some y2 := hF
      unfold cl_X4_goOn_L2 at hF
      refine lv_iload_n hx hb dX4_goOn_2 rfl (lv_at hl 3 rfl) ?_
      refine lv_aload_n hx hb dX4_goOn_3 rfl (lv_at hl 1 rfl) ?_
      obtain ⟨hg, hF⟩ := dx_gd_some hF
      have k1 := of_decide_eq_true hg
      refine cl_gi S V e1 k1 rfl (by decide) in_X2 1 (by decide) rfl q154 rfl dX4_goOn_4 ?_
      refine lv_icmp_ge (tgt := 72) hx hb dX4_goOn_7 (by decide) (fun hc => ?_) (fun hc => ?_)
      · replace hF := (if_pos hc).symm.trans hF
        replace hF := dx_ex_k hF hz2
        replace hF := Option.some.inj hF
        subst hF
        exact cl_rv S V hr hlocks dX4_goOn_72
      · replace hF := (if_neg hc).symm.trans hF
        refine lv_aload_n hx hb dX4_goOn_10 rfl (lv_at hl 1 rfl) ?_
        refine lv_iload_n hx hb dX4_goOn_11 rfl (lv_at hl 3 rfl) ?_
        refine lv_aload_n hx hb dX4_goOn_12 rfl (lv_at hl 0 rfl) ?_
        obtain ⟨hg, hF⟩ := dx_gd_some hF
        have k2 := of_decide_eq_true hg
        obtain ⟨hg, hF⟩ := dx_gd_some hF
        refine cl_gr S V e0 k2 rfl (by decide) in_X4 0 (by decide) rfl q225 rfl dX4_goOn_13 (of_decide_eq_true hg) (fun bb3 ee3 => ?_)
        refine lv_iload_n hx hb dX4_goOn_16 rfl (lv_at hl 2 rfl) ?_
        obtain ⟨hg, hF⟩ := dx_gd_some hF
        have k4 := of_decide_eq_true hg
        obtain ⟨hg, hF⟩ := dx_gd_some hF
        refine cl_ld S V ee3 k4 (dx_inb_in hg) dX4_goOn_17 ?_
        obtain ⟨r5, h5c, hF⟩ := dx_b1_some hF
        refine cl_ci (va_runV (As := [.int v3, .int (cl_i σ (cl_r σ o0 0) v2.toNatClampNeg)]) S (cm_X2_otherOf l D dA _ A a1 o1 v3 (cl_i σ (cl_r σ o0 0) v2.toNatClampNeg) σ _ e1 h5c) (cwV 2 hts (lw_V q1229 q1171 q1172 q79 q1173) rfl rfl rfl ⟨rfl, cd_X2_otherOf⟩ ⟨Nat.le_of_ble_eq_true rfl, Nat.le_of_ble_eq_true rfl⟩) (cl_preV V [.int v3, .int (cl_i σ (cl_r σ o0 0) v2.toNatClampNeg)] e1 k1 rfl (by decide)) rfl rfl hl.1 rfl (lv_room (Nat.le_of_ble_eq_true rfl)) dX4_goOn_18 ⟨Nat.le_of_ble_eq_true rfl, Nat.le_of_ble_eq_true rfl⟩) V (fun ad _ _ hag hle V => ?_)
        replace e0 := e0.mv hag hle
        replace e1 := e1.mv hag hle
        refine lv_istore (lv' := [(4, .int r5), (0, .ref a0), (1, .ref a1), (2, .int v2), (3, .int v3)]) hx hb dX4_goOn_21 hl (by decide) rfl (fun ls hl => ?_)
        refine lv_iload hx hb dX4_goOn_23 (lv_at hl 0 rfl) ?_
        refine lv_ldc hx hb hown (hts _ q1219) dX4_goOn_25 ?_
        refine lv_icmp_eq (tgt := 66) hx hb dX4_goOn_27 (by decide) (fun hc => ?_) (fun hc => ?_)
        · replace hF := (if_pos hc).symm.trans hF
          refine lv_iinc (v := (v3 + (1 : Int32))) (lv' := [(3, .int (v3 + (1 : Int32))), (4, .int r5), (0, .ref a0), (1, .ref a1), (2, .int v2)]) hx hb dX4_goOn_66 hl (k := 4) rfl rfl (by decide) rfl (fun ls hl => ?_)
          refine lv_goto (tgt := 2) hx hb dX4_goOn_69 (by decide) ?_
          replace hF := Option.some.inj hF
          subst hF
          exact ih2 (v3 + (1 : Int32)) σ _ _ _ _ (dx_lk_l hz2) e0 e1 V (lv_sub hl [2, 3, 4, 0] rfl)
        · replace hF := (if_neg hc).symm.trans hF
          refine lv_aload_n hx hb dX4_goOn_30 rfl (lv_at hl 2 rfl) ?_
          refine lv_iload_n hx hb dX4_goOn_31 rfl (lv_at hl 4 rfl) ?_
          refine lv_aload_n hx hb dX4_goOn_32 rfl (lv_at hl 1 rfl) ?_
          obtain ⟨hg, hF⟩ := dx_gd_some hF
          refine cl_gr S V e0 k2 rfl (by decide) in_X4 0 (by decide) rfl q225 rfl dX4_goOn_33 (of_decide_eq_true hg) (fun bb6 ee6 => ?_)
          refine lv_iload_n hx hb dX4_goOn_36 rfl (lv_at hl 3 rfl) ?_
          obtain ⟨hg, hF⟩ := dx_gd_some hF
          refine cl_ld S V ee6 k4 (dx_inb_in hg) dX4_goOn_37 ?_
          refine lv_iconst (v := 1) hx hb dX4_goOn_38 (by decide) ?_
          refine lv_aload_n hx hb dX4_goOn_39 rfl (lv_at hl 1 rfl) ?_
          obtain ⟨hg, hF⟩ := dx_gd_some hF
          refine cl_gr S V e0 k2 rfl (by decide) in_X4 1 (by decide) rfl q226 rfl dX4_goOn_40 (of_decide_eq_true hg) (fun bb7 ee7 => ?_)
          refine lv_iload_n hx hb dX4_goOn_43 rfl (lv_at hl 3 rfl) ?_
          obtain ⟨hg, hF⟩ := dx_gd_some hF
          have k8 := of_decide_eq_true hg
          obtain ⟨hg, hF⟩ := dx_gd_some hF
          refine cl_ld S V ee7 k8 (dx_inb_in hg) dX4_goOn_44 ?_
          refine lv_ishl hx hb dX4_goOn_45 ?_
          obtain ⟨r9, h9c, hF⟩ := dx_b1_some hF
          refine cl_ci (va_runV (As := [.int v3, .int (cl_i σ (cl_r σ o0 0) v2.toNatClampNeg), .int ((1 : Int32) <<< ((cl_i σ (cl_r σ o0 1) v2.toNatClampNeg) &&& 31))]) S (cm_X2_gives l D dA _ A a1 o1 v3 (cl_i σ (cl_r σ o0 0) v2.toNatClampNeg) ((1 : Int32) <<< ((cl_i σ (cl_r σ o0 1) v2.toNatClampNeg) &&& 31)) σ _ e1 h9c) (cwV 3 hts (lw_V q1230 q1167 q1168 q79 q1169) rfl rfl rfl ⟨rfl, cd_X2_gives⟩ ⟨Nat.le_of_ble_eq_true rfl, Nat.le_of_ble_eq_true rfl⟩) (cl_preV V [.int v3, .int (cl_i σ (cl_r σ o0 0) v2.toNatClampNeg), .int ((1 : Int32) <<< ((cl_i σ (cl_r σ o0 1) v2.toNatClampNeg) &&& 31))] e1 k1 rfl (by decide)) rfl rfl hl.1 rfl (lv_room (Nat.le_of_ble_eq_true rfl)) dX4_goOn_46 ⟨Nat.le_of_ble_eq_true rfl, Nat.le_of_ble_eq_true rfl⟩) V (fun ad _ _ hag hle V => ?_)
          replace e0 := e0.mv hag hle
          replace e1 := e1.mv hag hle
          refine lv_if_eq (tgt := 66) hx hb dX4_goOn_49 (by decide) (fun hc => ?_) (fun hc => ?_)
          · replace hF := dx_ib_f (dx_bI_0 hc) hF
            refine lv_iinc (v := (v3 + (1 : Int32))) (lv' := [(3, .int (v3 + (1 : Int32))), (4, .int r5), (0, .ref a0), (1, .ref a1), (2, .int v2)]) hx hb dX4_goOn_66 hl (k := 4) rfl rfl (by decide) rfl (fun ls hl => ?_)
            refine lv_goto (tgt := 2) hx hb dX4_goOn_69 (by decide) ?_
            replace hF := Option.some.inj hF
            subst hF
            exact ih2 (v3 + (1 : Int32)) σ _ _ _ _ (dx_lk_l hz2) e0 e1 V (lv_sub hl [2, 3, 4, 0] rfl)
          · replace hF := dx_ib_t (dx_bI_n hc) hF
            refine lv_aload_n hx hb dX4_goOn_52 rfl (lv_at hl 1 rfl) ?_
            refine lv_iload hx hb dX4_goOn_53 (lv_at hl 0 rfl) ?_
            refine lv_aload_n hx hb dX4_goOn_55 rfl (lv_at hl 2 rfl) ?_
            obtain ⟨hg, hF⟩ := dx_gd_some hF
            refine cl_gr S V e1 k1 rfl (by decide) in_X2 8 (by decide) rfl q181 rfl dX4_goOn_56 (of_decide_eq_true hg) (fun bb10 ee10 => ?_)
            refine lv_iload_n hx hb dX4_goOn_59 rfl (lv_at hl 4 rfl) ?_
            obtain ⟨hg, hF⟩ := dx_gd_some hF
            have k11 := of_decide_eq_true hg
            obtain ⟨hg, hF⟩ := dx_gd_some hF
            refine cl_ld S V ee10 k11 (dx_inb_in hg) dX4_goOn_60 ?_
            refine lv_iload_n hx hb dX4_goOn_61 rfl (lv_at hl 4 rfl) ?_
            refine lv_iload_n hx hb dX4_goOn_62 rfl (lv_at hl 3 rfl) ?_
            obtain ⟨σ12, h12c, hF⟩ := dx_b1_some hF
            refine cl_cv (va_runV (As := [.int r5, .int (cl_i σ (cl_r σ o1 8) v3.toNatClampNeg), .int v3, .int v2]) S (cm_X4_comes l D dA _ A a0 o0 r5 (cl_i σ (cl_r σ o1 8) v3.toNatClampNeg) v3 v2 σ _ e0 h12c) (cwV 4 hts (lw_V q1220 q1222 qs23 q81 q1223) rfl rfl rfl ⟨rfl, cd_X4_comes⟩ ⟨Nat.le_of_ble_eq_true rfl, Nat.le_of_ble_eq_true rfl⟩) (cl_preV V [.int r5, .int (cl_i σ (cl_r σ o1 8) v3.toNatClampNeg), .int v3, .int v2] e0 k2 rfl (by decide)) rfl rfl hl.1 rfl (lv_room (Nat.le_of_ble_eq_true rfl)) dX4_goOn_63 ⟨Nat.le_of_ble_eq_true rfl, Nat.le_of_ble_eq_true rfl⟩) V (fun ad _ _ hag hle V => ?_)
            replace e0 := e0.mv hag hle
            replace e1 := e1.mv hag hle
            refine lv_iinc (v := (v3 + (1 : Int32))) (lv' := [(3, .int (v3 + (1 : Int32))), (4, .int r5), (0, .ref a0), (1, .ref a1), (2, .int v2)]) hx hb dX4_goOn_66 hl (k := 4) rfl rfl (by decide) rfl (fun ls hl => ?_)
            refine lv_goto (tgt := 2) hx hb dX4_goOn_69 (by decide) ?_
            replace hF := Option.some.inj hF
            subst hF
            exact ih2 (v3 + (1 : Int32)) σ12 _ _ _ _ (dx_lk_l hz2) e0 e1 V (lv_sub hl [2, 3, 4, 0] rfl)
  refine lv_iconst (v := 0) hx hb dX4_goOn_0 (by decide) ?_
  refine lv_istore_n (lv' := [(3, .int (0 : Int32)), (0, .ref a0), (1, .ref a1), (2, .int p1)]) hx hb dX4_goOn_1 rfl hl (by decide) rfl (fun ls hl => ?_)
  exact hL2 p1 dx_fu (0 : Int32) σ0 _ _ _ _ hF e0 e1 V (lv_sub hl [1, 2, 3, 0] rfl)
theorem cd_X4_find : yX4_find.cls ≠ "java/lang/invoke/MethodHandle" ∧ yX4_find.cls ≠ "java/lang/invoke/VarHandle" ∧ (parseMethodDescriptor yX4_find.desc).map (fun d => d.parameters.length) = some 4 := by decide +kernel
set_option maxHeartbeats 4000000 in
set_option maxRecDepth 100000 in
theorem cm_X4_find (l : Launch) (D : va_G) (dA : Nat → ClassId) (ad0 : Nat → Nat) (A : Nat → Prop) (a0 : Nat) (a1 : Nat) (o0 : Nat) (o1 : Nat) (p1 : Int32) (p2 : Int32) (p3 : Int32) (σ0 : cl_S) (r : Bool) (σ' : cl_S) (e0 : cl_at ad0 σ0 a0 o0) (e1 : cl_at ad0 σ0 a1 o1) (hF : cl_X4_find o0 o1 σ0 p1 p2 p3 = some (r, σ')) : cl_Ci l yX4_find cX4_find 8 .boolean ({ frames := 5, cells := 0, slots := 0, locals := 112 }) D dA ad0 A [.ref a0, .ref a1, .int p1, .int p2, .int p3] σ0 (dx_bI r) σ' := by
  refine cl_in RX4 rfl (by decide) (Nat.le_of_ble_eq_true rfl) ?_
  intro p e s m below meth c ls S hr hlocks hini hv hl
  have hx := S.1
  have hb := S.2.1
  have hown := S.2.2.2.1
  have hts := S.2.2.2.2
  obtain ⟨hN, hK, hP, hD, hA, hZ⟩ := hv
  have V : cl_V D dA (ad0, cl_n σ0) ad0 A s.heap σ0 s s.heap [] := ⟨hN, hK, hP, hD, va_S.rf, hA, hZ, fun _ _ => rfl, Nat.le_refl _⟩
  obtain ⟨ad, V, e0, e1⟩ : ∃ ad, cl_V D dA (ad0, cl_n σ0) ad A s.heap σ0 s s.heap [] ∧ cl_at ad σ0 a0 o0 ∧ cl_at ad σ0 a1 o1 := ⟨ad0, V, e0, e1⟩
  replace hl : lv_has ls 8 [(0, .ref a0), (1, .ref a1), (2, .int p1), (3, .int p2), (4, .int p3)] := hl
  unfold cl_X4_find at hF
  have hL140 : ∀  (n : Nat) (v6 : Int32) (v7 : Int32) (σ : cl_S) (ad : Nat → Nat) (H : Heap) (locs : List Loc) (ls : Array Slot), dx_lp (fun x => cl_X4_find_L140 o0 o1 x.2.2 x.1 x.2.1) n (v6, v7, σ) = some (r, σ') → cl_at ad σ a0 o0 → cl_V D dA (ad0, cl_n σ0) ad A s.heap σ s H locs → lv_has ls 8 [(0, .ref a0), (6, .int v6), (7, .int v7)] → W p l e ({ frames := 5, cells := 0, slots := 0, locals := 112 }) s m ([.ref a0, .ref a1, .int p1, .int p2, .int p3] : List Value).toArray below meth c H locs 0 0 (MQ below (cl_Qi D dA ad0 A σ0 σ' (dx_bI r)) ([.ref a0, .ref a1, .int p1, .int p2, .int p3] : List Value).toArray s 0 0 A) (F0 m 140 ls []) := by
    intro n
    induction n with
    | zero =>
      intro v6 v7 σ ad H locs ls hF e0 V hl
      exact (dx_lp_0 hF).elim
    | succ n ih140 =>
      intro v6 v7 σ ad H locs ls hF e0 V hl
      obtain ⟨y140, hF, hz140⟩ := dx_lp_s hF
      replace hF : cl_X4_find_L140 o0 o1 σ v6 v7 = some y140 := hF
      unfold cl_X4_find_L140 at hF
      refine lv_aload_n hx hb dX4_find_140 rfl (lv_at hl 0 rfl) ?_
      obtain ⟨hg, hF⟩ := dx_gd_some hF
      have k9 := of_decide_eq_true hg
      obtain ⟨hg, hF⟩ := dx_gd_some hF
      refine cl_gr S V e0 k9 rfl (by decide) in_X4 3 (by decide) rfl q228 rfl dX4_find_141 (of_decide_eq_true hg) (fun bb10 ee10 => ?_)
      refine lv_iload hx hb dX4_find_144 (lv_at hl 2 rfl) ?_
      obtain ⟨hg, hF⟩ := dx_gd_some hF
      have k11 := of_decide_eq_true hg
      obtain ⟨hg, hF⟩ := dx_gd_some hF
      refine cl_ld S V ee10 k11 (dx_inb_in hg) dX4_find_146 ?_
      refine lv_ldc hx hb hown (hts _ q1219) dX4_find_147 ?_
      refine lv_icmp_eq (tgt := 181) hx hb dX4_find_149 (by decide) (fun hc => ?_) (fun hc => ?_)
      · replace hF := (if_pos hc).symm.trans hF
        replace hF := dx_ex_k hF hz140
        refine lv_iconst (v := 1) hx hb dX4_find_181 (by decide) ?_
        obtain ⟨hF1, hF2⟩ := dx_r2 hF
        subst hF1
        subst hF2
        exact cl_ri S V hr hlocks rfl dX4_find_182
      · replace hF := (if_neg hc).symm.trans hF
        refine lv_iinc (v := (v6 + (-1 : Int32))) (lv' := [(6, .int (v6 + (-1 : Int32))), (0, .ref a0), (7, .int v7)]) hx hb dX4_find_152 hl (k := 1) rfl rfl (by decide) rfl (fun ls hl => ?_)
        refine lv_aload_n hx hb dX4_find_155 rfl (lv_at hl 1 rfl) ?_
        obtain ⟨hg, hF⟩ := dx_gd_some hF
        refine cl_gr S V e0 k9 rfl (by decide) in_X4 6 (by decide) rfl q231 rfl dX4_find_156 (of_decide_eq_true hg) (fun bb12 ee12 => ?_)
        refine lv_iload hx hb dX4_find_159 (lv_at hl 0 rfl) ?_
        refine lv_aload_n hx hb dX4_find_161 rfl (lv_at hl 1 rfl) ?_
        obtain ⟨hg, hF⟩ := dx_gd_some hF
        refine cl_gr S V e0 k9 rfl (by decide) in_X4 2 (by decide) rfl q227 rfl dX4_find_162 (of_decide_eq_true hg) (fun bb13 ee13 => ?_)
        refine lv_iload hx hb dX4_find_165 (lv_at hl 2 rfl) ?_
        obtain ⟨hg, hF⟩ := dx_gd_some hF
        have k14 := of_decide_eq_true hg
        obtain ⟨hg, hF⟩ := dx_gd_some hF
        refine cl_ld S V ee13 k14 (dx_inb_in hg) dX4_find_167 ?_
        obtain ⟨hg, hF⟩ := dx_gd_some hF
        have k15 := of_decide_eq_true hg
        obtain ⟨hg, hF⟩ := dx_gd_some hF
        refine cl_st S V ee12 k15 (dx_inb_in hg) dX4_find_168 (fun _ _ V => ?_)
        obtain ⟨σ16, eσ16⟩ : ∃ x, x = (cl_wi σ (cl_r σ o0 6) (v6 + (-1 : Int32)).toNatClampNeg (cl_i σ (cl_r σ o0 2) v7.toNatClampNeg)) := ⟨_, rfl⟩
        rw [← eσ16] at V
        replace hF := dx_let_e eσ16 hF
        replace e0 : cl_at ad σ16 a0 o0 := by rw [eσ16]; exact e0
        replace k9 : cl_k σ16 o0 = 4 := by rw [eσ16]; exact k9
        replace k11 : cl_k σ16 (cl_r σ o0 3) = 20 := by rw [eσ16]; exact k11
        replace k14 : cl_k σ16 (cl_r σ o0 2) = 20 := by rw [eσ16]; exact k14
        replace k15 : cl_k σ16 (cl_r σ o0 6) = 20 := by rw [eσ16]; exact k15
        refine lv_aload_n hx hb dX4_find_169 rfl (lv_at hl 1 rfl) ?_
        obtain ⟨hg, hF⟩ := dx_gd_some hF
        refine cl_gr S V e0 k9 rfl (by decide) in_X4 3 (by decide) rfl q228 rfl dX4_find_170 (of_decide_eq_true hg) (fun bb17 ee17 => ?_)
        refine lv_iload hx hb dX4_find_173 (lv_at hl 2 rfl) ?_
        obtain ⟨hg, hF⟩ := dx_gd_some hF
        have k18 := of_decide_eq_true hg
        obtain ⟨hg, hF⟩ := dx_gd_some hF
        refine cl_ld S V ee17 k18 (dx_inb_in hg) dX4_find_175 ?_
        refine lv_istore (lv' := [(7, .int (cl_i σ16 (cl_r σ16 o0 3) v7.toNatClampNeg)), (6, .int (v6 + (-1 : Int32))), (0, .ref a0)]) hx hb dX4_find_176 hl (by decide) rfl (fun ls hl => ?_)
        refine lv_goto (tgt := 140) hx hb dX4_find_178 (by decide) ?_
        replace hF := Option.some.inj hF
        subst hF
        exact ih140 (v6 + (-1 : Int32)) (cl_i σ16 (cl_r σ16 o0 3) v7.toNatClampNeg) σ16 _ _ _ _ (dx_lk_l hz140) e0 V (lv_sub hl [2, 1, 0] rfl)
  have hL96 : ∀ (v5 : Int32) (n : Nat) (v6 : Int32) (σ : cl_S) (ad : Nat → Nat) (H : Heap) (locs : List Loc) (ls : Array Slot), dx_lp (fun x => cl_X4_find_L96 o0 o1 x.2 v5 x.1) n (v6, σ) = some (r, σ') → cl_at ad σ a0 o0 → cl_V D dA (ad0, cl_n σ0) ad A s.heap σ s H locs → lv_has ls 8 [(0, .ref a0), (5, .int v5), (6, .int v6)] → W p l e ({ frames := 5, cells := 0, slots := 0, locals := 112 }) s m ([.ref a0, .ref a1, .int p1, .int p2, .int p3] : List Value).toArray below meth c H locs 0 0 (MQ below (cl_Qi D dA ad0 A σ0 σ' (dx_bI r)) ([.ref a0, .ref a1, .int p1, .int p2, .int p3] : List Value).toArray s 0 0 A) (F0 m 96 ls []) := by
    intro v5 n
    induction n with
    | zero =>
      intro v6 σ ad H locs ls hF e0 V hl
      exact (dx_lp_0 hF).elim
    | succ n ih96 =>
      intro v6 σ ad H locs ls hF e0 V hl
      obtain ⟨y96, hF, hz96⟩ := dx_lp_s hF
      replace hF : cl_X4_find_L96 o0 o1 σ v5 v6 = some y96 := hF
      unfold cl_X4_find_L96 at hF
      refine lv_aload_n hx hb dX4_find_96 rfl (lv_at hl 0 rfl) ?_
      obtain ⟨hg, hF⟩ := dx_gd_some hF
      have k6 := of_decide_eq_true hg
      obtain ⟨hg, hF⟩ := dx_gd_some hF
      refine cl_gr S V e0 k6 rfl (by decide) in_X4 3 (by decide) rfl q228 rfl dX4_find_97 (of_decide_eq_true hg) (fun bb7 ee7 => ?_)
      refine lv_iload hx hb dX4_find_100 (lv_at hl 2 rfl) ?_
      obtain ⟨hg, hF⟩ := dx_gd_some hF
      have k8 := of_decide_eq_true hg
      obtain ⟨hg, hF⟩ := dx_gd_some hF
      refine cl_ld S V ee7 k8 (dx_inb_in hg) dX4_find_102 ?_
      refine lv_ldc hx hb hown (hts _ q1219) dX4_find_103 ?_
      refine lv_icmp_eq (tgt := 130) hx hb dX4_find_105 (by decide) (fun hc => ?_) (fun hc => ?_)
      · replace hF := (if_pos hc).symm.trans hF
        replace hF := dx_ex_k hF hz96
        refine lv_aload_n hx hb dX4_find_130 rfl (lv_at hl 0 rfl) ?_
        refine cl_gi S V e0 k6 rfl (by decide) in_X4 7 (by decide) rfl q233 rfl dX4_find_131 ?_
        refine lv_istore (lv' := [(6, .int (cl_i σ o0 7)), (0, .ref a0), (5, .int v5)]) hx hb dX4_find_134 hl (by decide) rfl (fun ls hl => ?_)
        refine lv_iload hx hb dX4_find_136 (lv_at hl 2 rfl) ?_
        refine lv_istore (lv' := [(7, .int v5), (6, .int (cl_i σ o0 7)), (0, .ref a0), (5, .int v5)]) hx hb dX4_find_138 hl (by decide) rfl (fun ls hl => ?_)
        exact hL140  dx_fu (cl_i σ o0 7) v5 σ _ _ _ _ hF e0 V (lv_sub hl [2, 1, 0] rfl)
      · replace hF := (if_neg hc).symm.trans hF
        refine lv_aload_n hx hb dX4_find_108 rfl (lv_at hl 0 rfl) ?_
        refine lv_dup hx hb dX4_find_109 rfl ?_
        refine cl_gi S V e0 k6 rfl (by decide) in_X4 7 (by decide) rfl q233 rfl dX4_find_110 ?_
        refine lv_iconst (v := 1) hx hb dX4_find_113 (by decide) ?_
        refine lv_iadd hx hb dX4_find_114 ?_
        refine cl_pi S V e0 k6 rfl (by decide) in_X4 tyX4 tyX4_ok nmX4 7 (by decide) rfl q233 rfl rfl rfl dX4_find_115 (fun _ _ V => ?_)
        refine lv_aload_n hx hb dX4_find_118 rfl (lv_at hl 0 rfl) ?_
        obtain ⟨hg, hF⟩ := dx_gd_some hF
        refine cl_gr S V e0 k6 rfl (by decide) in_X4 3 (by decide) rfl q228 rfl dX4_find_119 (of_decide_eq_true hg) (fun bb19 ee19 => ?_)
        refine lv_iload hx hb dX4_find_122 (lv_at hl 2 rfl) ?_
        obtain ⟨hg, hF⟩ := dx_gd_some hF
        have k20 := of_decide_eq_true hg
        obtain ⟨hg, hF⟩ := dx_gd_some hF
        refine cl_ld S V ee19 k20 (dx_inb_in hg) dX4_find_124 ?_
        refine lv_topi (fun x21 ex21 => ?_)
        replace hF := dx_let_e ex21 hF
        refine lv_istore (lv' := [(6, .int x21), (0, .ref a0), (5, .int v5)]) hx hb dX4_find_125 hl (by decide) rfl (fun ls hl => ?_)
        refine lv_goto (tgt := 96) hx hb dX4_find_127 (by decide) ?_
        replace hF := Option.some.inj hF
        subst hF
        exact ih96 x21 (cl_wi σ o0 7 ((cl_i σ o0 7) + (1 : Int32))) _ _ _ _ (dx_lk_l hz96) e0 V (lv_sub hl [1, 2, 0] rfl)
  have hJ76 : ∀ (σ : cl_S) (v5 : Int32) (ad : Nat → Nat) (H : Heap) (locs : List Loc) (ls : Array Slot), cl_X4_find_J76 o0 o1 σ v5 = some (r, σ') → cl_at ad σ a0 o0 → cl_V D dA (ad0, cl_n σ0) ad A s.heap σ s H locs → lv_has ls 8 [(0, .ref a0), (5, .int v5)] → W p l e ({ frames := 5, cells := 0, slots := 0, locals := 112 }) s m ([.ref a0, .ref a1, .int p1, .int p2, .int p3] : List Value).toArray below meth c H locs 0 0 (MQ below (cl_Qi D dA ad0 A σ0 σ' (dx_bI r)) ([.ref a0, .ref a1, .int p1, .int p2, .int p3] : List Value).toArray s 0 0 A) (F0 m 76 ls []) := by
    intro σ v5 ad H locs ls hF e0 V hl
    unfold cl_X4_find_J76 at hF
    refine lv_iload hx hb dX4_find_76 (lv_at hl 1 rfl) ?_
    refine lv_aload_n hx hb dX4_find_78 rfl (lv_at hl 0 rfl) ?_
    obtain ⟨hg, hF⟩ := dx_gd_some hF
    have k5 := of_decide_eq_true hg
    refine cl_gi S V e0 k5 rfl (by decide) in_X4 5 (by decide) rfl q230 rfl dX4_find_79 ?_
    refine lv_icmp_ne (tgt := 87) hx hb dX4_find_82 (by decide) (fun hc => ?_) (fun hc => ?_)
    · replace hF := (if_neg hc).symm.trans hF
      refine lv_aload_n hx hb dX4_find_87 rfl (lv_at hl 0 rfl) ?_
      refine lv_iconst (v := 0) hx hb dX4_find_88 (by decide) ?_
      refine cl_pi S V e0 k5 rfl (by decide) in_X4 tyX4 tyX4_ok nmX4 7 (by decide) rfl q233 rfl rfl rfl dX4_find_89 (fun _ _ V => ?_)
      refine lv_iload hx hb dX4_find_92 (lv_at hl 1 rfl) ?_
      refine lv_istore (lv' := [(6, .int v5), (0, .ref a0), (5, .int v5)]) hx hb dX4_find_94 hl (by decide) rfl (fun ls hl => ?_)
      exact hL96 v5 dx_fu v5 (cl_wi σ o0 7 (0 : Int32)) _ _ _ _ hF e0 V (lv_sub hl [1, 2, 0] rfl)
    · replace hF := (if_pos hc).symm.trans hF
      refine lv_iconst (v := 0) hx hb dX4_find_85 (by decide) ?_
      obtain ⟨hF1, hF2⟩ := dx_r2 hF
      subst hF1
      subst hF2
      exact cl_ri S V hr hlocks rfl dX4_find_86
  have hL42 : ∀ (v4 : Int32) (n : Nat) (v5 : Int32) (σ : cl_S) (ad : Nat → Nat) (H : Heap) (locs : List Loc) (ls : Array Slot), dx_lp (fun x => cl_X4_find_L42 o0 o1 x.2 v4 x.1) n (v5, σ) = some (r, σ') → cl_at ad σ a0 o0 → cl_at ad σ a1 o1 → cl_V D dA (ad0, cl_n σ0) ad A s.heap σ s H locs → lv_has ls 8 [(0, .ref a0), (1, .ref a1), (4, .int v4), (5, .int v5)] → W p l e ({ frames := 5, cells := 0, slots := 0, locals := 112 }) s m ([.ref a0, .ref a1, .int p1, .int p2, .int p3] : List Value).toArray below meth c H locs 0 0 (MQ below (cl_Qi D dA ad0 A σ0 σ' (dx_bI r)) ([.ref a0, .ref a1, .int p1, .int p2, .int p3] : List Value).toArray s 0 0 A) (F0 m 42 ls []) := by
    intro v4 n
    induction n with
    | zero =>
      intro v5 σ ad H locs ls hF e0 e1 V hl
      exact (dx_lp_0 hF).elim
    | succ n ih42 =>
      intro v5 σ ad H locs ls hF e0 e1 V hl
      obtain ⟨y42, hF, hz42⟩ := dx_lp_s hF
      replace hF : cl_X4_find_L42 o0 o1 σ v4 v5 = some y42 := hF
      unfold cl_X4_find_L42 at hF
      refine lv_iload hx hb dX4_find_42 (lv_at hl 3 rfl) ?_
      refine lv_aload_n hx hb dX4_find_44 rfl (lv_at hl 0 rfl) ?_
      obtain ⟨hg, hF⟩ := dx_gd_some hF
      have k4 := of_decide_eq_true hg
      refine cl_gi S V e0 k4 rfl (by decide) in_X4 5 (by decide) rfl q230 rfl dX4_find_45 ?_
      refine lv_icmp_ge (tgt := 76) hx hb dX4_find_48 (by decide) (fun hc => ?_) (fun hc => ?_)
      · replace hF := (if_pos hc).symm.trans hF
        replace hF := dx_ex_k hF hz42
        exact hJ76 σ v5 _ _ _ _ hF e0 V (lv_sub hl [0, 3] rfl)
      · replace hF := (if_neg hc).symm.trans hF
        refine lv_aload_n hx hb dX4_find_51 rfl (lv_at hl 0 rfl) ?_
        obtain ⟨hg, hF⟩ := dx_gd_some hF
        refine cl_gr S V e0 k4 rfl (by decide) in_X4 0 (by decide) rfl q225 rfl dX4_find_52 (of_decide_eq_true hg) (fun bb22 ee22 => ?_)
        refine lv_iload hx hb dX4_find_55 (lv_at hl 3 rfl) ?_
        obtain ⟨hg, hF⟩ := dx_gd_some hF
        have k23 := of_decide_eq_true hg
        obtain ⟨hg, hF⟩ := dx_gd_some hF
        refine cl_ld S V ee22 k23 (dx_inb_in hg) dX4_find_57 ?_
        refine lv_iload hx hb dX4_find_58 (lv_at hl 2 rfl) ?_
        refine lv_icmp_eq (tgt := 76) hx hb dX4_find_60 (by decide) (fun hc => ?_) (fun hc => ?_)
        · replace hF := (if_pos hc).symm.trans hF
          replace hF := dx_ex_k hF hz42
          exact hJ76 σ v5 _ _ _ _ hF e0 V (lv_sub hl [0, 3] rfl)
        · replace hF := (if_neg hc).symm.trans hF
          refine lv_aload_n hx hb dX4_find_63 rfl (lv_at hl 0 rfl) ?_
          refine lv_aload_n hx hb dX4_find_64 rfl (lv_at hl 1 rfl) ?_
          refine lv_iload hx hb dX4_find_65 (lv_at hl 3 rfl) ?_
          obtain ⟨σ24, h24c, hF⟩ := dx_b1_some hF
          refine cl_cv (va_runV (As := [.ref a1, .int v5]) S (cm_X4_goOn l D dA _ A a0 a1 o0 o1 v5 σ _ e0 e1 h24c) (cwV 2 hts (lw_V q1225 q1227 qs24 q81 q1228) rfl rfl rfl ⟨rfl, cd_X4_goOn⟩ ⟨Nat.le_of_ble_eq_true rfl, Nat.le_of_ble_eq_true rfl⟩) (cl_preV V [.ref a1, .int v5] e0 k4 rfl (by decide)) rfl rfl hl.1 rfl (lv_room (Nat.le_of_ble_eq_true rfl)) dX4_find_67 ⟨Nat.le_of_ble_eq_true rfl, Nat.le_of_ble_eq_true rfl⟩) V (fun ad _ _ hag hle V => ?_)
          replace e0 := e0.mv hag hle
          replace e1 := e1.mv hag hle
          refine lv_iinc (v := (v5 + (1 : Int32))) (lv' := [(5, .int (v5 + (1 : Int32))), (0, .ref a0), (1, .ref a1), (4, .int v4)]) hx hb dX4_find_70 hl (k := 3) rfl rfl (by decide) rfl (fun ls hl => ?_)
          refine lv_goto (tgt := 42) hx hb dX4_find_73 (by decide) ?_
          replace hF := Option.some.inj hF
          subst hF
          exact ih42 (v5 + (1 : Int32)) σ24 _ _ _ _ (dx_lk_l hz42) e0 e1 V (lv_sub hl [1, 2, 3, 0] rfl)
  have hL8 : ∀ (v2 : Int32) (v3 : Int32) (v4 : Int32) (n : Nat) (v5 : Int32) (σ : cl_S) (ad : Nat → Nat) (H : Heap) (locs : List Loc) (ls : Array Slot), dx_lp (fun x => cl_X4_find_L8 o0 o1 x.2 v2 v3 v4 x.1) n (v5, σ) = some (r, σ') → cl_at ad σ a0 o0 → cl_at ad σ a1 o1 → cl_V D dA (ad0, cl_n σ0) ad A s.heap σ s H locs → lv_has ls 8 [(0, .ref a0), (1, .ref a1), (2, .int v2), (3, .int v3), (4, .int v4), (5, .int v5)] → W p l e ({ frames := 5, cells := 0, slots := 0, locals := 112 }) s m ([.ref a0, .ref a1, .int p1, .int p2, .int p3] : List Value).toArray below meth c H locs 0 0 (MQ below (cl_Qi D dA ad0 A σ0 σ' (dx_bI r)) ([.ref a0, .ref a1, .int p1, .int p2, .int p3] : List Value).toArray s 0 0 A) (F0 m 8 ls []) := by
    intro v2 v3 v4 n
    induction n with
    | zero =>
      intro v5 σ ad H locs ls hF e0 e1 V hl
      exact (dx_lp_0 hF).elim
    | succ n ih8 =>
      intro v5 σ ad H locs ls hF e0 e1 V hl
      obtain ⟨y8, hF, hz8⟩ := dx_lp_s hF
      replace hF : cl_X4_find_L8 o0 o1 σ v2 v3 v4 v5 = some y8 := hF
      unfold cl_X4_find_L8 at hF
      refine lv_iload hx hb dX4_find_8 (lv_at hl 5 rfl) ?_
      refine lv_bipush (v := 9) hx hb dX4_find_10 (by decide) ?_
      refine lv_icmp_ge (tgt := 29) hx hb dX4_find_12 (by decide) (fun hc => ?_) (fun hc => ?_)
      · replace hF := (if_pos hc).symm.trans hF
        replace hF := dx_ex_k hF hz8
        refine lv_aload_n hx hb dX4_find_29 rfl (lv_at hl 0 rfl) ?_
        refine lv_iload_n hx hb dX4_find_30 rfl (lv_at hl 2 rfl) ?_
        refine lv_iload_n hx hb dX4_find_31 rfl (lv_at hl 3 rfl) ?_
        refine lv_ldc hx hb hown (hts _ q1219) dX4_find_32 ?_
        refine lv_ldc hx hb hown (hts _ q1219) dX4_find_34 ?_
        obtain ⟨hg, hF⟩ := dx_gd_some hF
        have k3 := of_decide_eq_true hg
        obtain ⟨σ2, h2c, hF⟩ := dx_b1_some hF
        refine cl_cv (va_runV (As := [.int v2, .int v3, .int (-1000000 : Int32), .int (-1000000 : Int32)]) S (cm_X4_comes l D dA _ A a0 o0 v2 v3 (-1000000 : Int32) (-1000000 : Int32) σ _ e0 h2c) (cwV 4 hts (lw_V q1220 q1222 qs23 q81 q1223) rfl rfl rfl ⟨rfl, cd_X4_comes⟩ ⟨Nat.le_of_ble_eq_true rfl, Nat.le_of_ble_eq_true rfl⟩) (cl_preV V [.int v2, .int v3, .int (-1000000 : Int32), .int (-1000000 : Int32)] e0 k3 rfl (by decide)) rfl rfl hl.1 rfl (lv_room (Nat.le_of_ble_eq_true rfl)) dX4_find_36 ⟨Nat.le_of_ble_eq_true rfl, Nat.le_of_ble_eq_true rfl⟩) V (fun ad _ _ hag hle V => ?_)
        replace e0 := e0.mv hag hle
        replace e1 := e1.mv hag hle
        refine lv_iconst (v := 0) hx hb dX4_find_39 (by decide) ?_
        refine lv_istore (lv' := [(5, .int (0 : Int32)), (0, .ref a0), (1, .ref a1), (2, .int v2), (3, .int v3), (4, .int v4)]) hx hb dX4_find_40 hl (by decide) rfl (fun ls hl => ?_)
        exact hL42 v4 dx_fu (0 : Int32) σ2 _ _ _ _ hF e0 e1 V (lv_sub hl [1, 2, 5, 0] rfl)
      · replace hF := (if_neg hc).symm.trans hF
        refine lv_aload_n hx hb dX4_find_15 rfl (lv_at hl 0 rfl) ?_
        obtain ⟨hg, hF⟩ := dx_gd_some hF
        have k25 := of_decide_eq_true hg
        obtain ⟨hg, hF⟩ := dx_gd_some hF
        refine cl_gr S V e0 k25 rfl (by decide) in_X4 4 (by decide) rfl q229 rfl dX4_find_16 (of_decide_eq_true hg) (fun bb26 ee26 => ?_)
        refine lv_iload hx hb dX4_find_19 (lv_at hl 5 rfl) ?_
        refine lv_iconst (v := 0) hx hb dX4_find_21 (by decide) ?_
        obtain ⟨hg, hF⟩ := dx_gd_some hF
        have k27 := of_decide_eq_true hg
        obtain ⟨hg, hF⟩ := dx_gd_some hF
        refine cl_st S V ee26 k27 (dx_inb_in hg) dX4_find_22 (fun _ _ V => ?_)
        obtain ⟨σ28, eσ28⟩ : ∃ x, x = (cl_wi σ (cl_r σ o0 4) v5.toNatClampNeg (0 : Int32)) := ⟨_, rfl⟩
        rw [← eσ28] at V
        replace hF := dx_let_e eσ28 hF
        replace e0 : cl_at ad σ28 a0 o0 := by rw [eσ28]; exact e0
        replace e1 : cl_at ad σ28 a1 o1 := by rw [eσ28]; exact e1
        replace k25 : cl_k σ28 o0 = 4 := by rw [eσ28]; exact k25
        replace k27 : cl_k σ28 (cl_r σ o0 4) = 20 := by rw [eσ28]; exact k27
        refine lv_iinc (v := (v5 + (1 : Int32))) (lv' := [(5, .int (v5 + (1 : Int32))), (0, .ref a0), (1, .ref a1), (2, .int v2), (3, .int v3), (4, .int v4)]) hx hb dX4_find_23 hl (k := 5) rfl rfl (by decide) rfl (fun ls hl => ?_)
        refine lv_goto (tgt := 8) hx hb dX4_find_26 (by decide) ?_
        replace hF := Option.some.inj hF
        subst hF
        exact ih8 (v5 + (1 : Int32)) σ28 _ _ _ _ (dx_lk_l hz8) e0 e1 V (lv_sub hl [1, 2, 3, 4, 5, 0] rfl)
  refine lv_aload_n hx hb dX4_find_0 rfl (lv_at hl 0 rfl) ?_
  refine lv_iconst (v := 0) hx hb dX4_find_1 (by decide) ?_
  obtain ⟨hg, hF⟩ := dx_gd_some hF
  have k1 := of_decide_eq_true hg
  refine cl_pi S V e0 k1 rfl (by decide) in_X4 tyX4 tyX4_ok nmX4 5 (by decide) rfl q230 rfl rfl rfl dX4_find_2 (fun _ _ V => ?_)
  refine lv_iconst (v := 0) hx hb dX4_find_5 (by decide) ?_
  refine lv_istore (lv' := [(5, .int (0 : Int32)), (0, .ref a0), (1, .ref a1), (2, .int p1), (3, .int p2), (4, .int p3)]) hx hb dX4_find_6 hl (by decide) rfl (fun ls hl => ?_)
  exact hL8 p1 p2 p3 dx_fu (0 : Int32) (cl_wi σ0 o0 5 (0 : Int32)) _ _ _ _ hF e0 e1 V (lv_sub hl [1, 2, 3, 4, 5, 0] rfl)
theorem cd_X0_chain : yX0_chain.cls ≠ "java/lang/invoke/MethodHandle" ∧ yX0_chain.cls ≠ "java/lang/invoke/VarHandle" ∧ (parseMethodDescriptor yX0_chain.desc).map (fun d => d.parameters.length) = some 4 := by decide +kernel
set_option maxHeartbeats 4000000 in
set_option maxRecDepth 100000 in
theorem cm_X0_chain (l : Launch) (D : va_G) (dA : Nat → ClassId) (ad0 : Nat → Nat) (A : Nat → Prop) (a0 : Nat) (o0 : Nat) (p0 : Int32) (p1 : Int32) (p2 : Int32) (p3 : Int32) (σ0 : cl_S) (r : Int32) (σ' : cl_S) (e0 : cl_at ad0 σ0 a0 o0) (hF : cl_X0_chain o0 σ0 p0 p1 p2 p3 = some (r, σ')) : cl_Ci l yX0_chain cX0_chain 5 .int ({ frames := 6, cells := 0, slots := 0, locals := 139 }) D dA ad0 A [.ref a0, .int p0, .int p1, .int p2, .int p3] σ0 r σ' := by
  refine cl_in RX0 rfl (by decide) (Nat.le_of_ble_eq_true rfl) ?_
  intro p e s m below meth c ls S hr hlocks hini hv hl
  have hx := S.1
  have hb := S.2.1
  have hown := S.2.2.2.1
  have hts := S.2.2.2.2
  obtain ⟨hN, hK, hP, hD, hA, hZ⟩ := hv
  have V : cl_V D dA (ad0, cl_n σ0) ad0 A s.heap σ0 s s.heap [] := ⟨hN, hK, hP, hD, va_S.rf, hA, hZ, fun _ _ => rfl, Nat.le_refl _⟩
  obtain ⟨ad, V, e0⟩ : ∃ ad, cl_V D dA (ad0, cl_n σ0) ad A s.heap σ0 s s.heap [] ∧ cl_at ad σ0 a0 o0 := ⟨ad0, V, e0⟩
  replace hl : lv_has ls 5 [(0, .ref a0), (1, .int p0), (2, .int p1), (3, .int p2), (4, .int p3)] := hl
  unfold cl_X0_chain at hF
  refine lv_aload_n hx hb dX0_chain_0 rfl (lv_at hl 0 rfl) ?_
  refine lv_iload_n hx hb dX0_chain_1 rfl (lv_at hl 1 rfl) ?_
  refine lv_iload_n hx hb dX0_chain_2 rfl (lv_at hl 2 rfl) ?_
  refine lv_iload_n hx hb dX0_chain_3 rfl (lv_at hl 3 rfl) ?_
  obtain ⟨hg, hF⟩ := dx_gd_some hF
  have k2 := of_decide_eq_true hg
  obtain ⟨r1, h1c, hF⟩ := dx_b1_some hF
  refine cl_ci (va_runV (As := [.int p0, .int p1, .int p2]) S (cm_X0_areSo l D dA _ A a0 o0 p0 p1 p2 σ0 _ e0 h1c) (cwV 3 hts (lw_V q1151 q1153 qs21 q77 q1154) rfl rfl rfl ⟨rfl, cd_X0_areSo⟩ ⟨Nat.le_of_ble_eq_true rfl, Nat.le_of_ble_eq_true rfl⟩) (cl_preV V [.int p0, .int p1, .int p2] e0 k2 rfl (by decide)) rfl rfl hl.1 rfl (lv_room (Nat.le_of_ble_eq_true rfl)) dX0_chain_4 ⟨Nat.le_of_ble_eq_true rfl, Nat.le_of_ble_eq_true rfl⟩) V (fun ad _ _ hag hle V => ?_)
  replace e0 := e0.mv hag hle
  refine lv_if_eq (tgt := 16) hx hb dX0_chain_7 (by decide) (fun hc => ?_) (fun hc => ?_)
  · replace hF := dx_ib_f (dx_bI_0 hc) hF
    refine lv_ldc hx hb hown (hts _ q406) dX0_chain_16 ?_
    obtain ⟨hF1, hF2⟩ := dx_r2 hF
    subst hF1
    subst hF2
    exact cl_ri S V hr hlocks rfl dX0_chain_18
  · replace hF := dx_ib_t (dx_bI_n hc) hF
    refine lv_iload hx hb dX0_chain_10 (lv_at hl 4 rfl) ?_
    refine lv_iconst (v := (-1)) hx hb dX0_chain_12 (by decide) ?_
    refine lv_icmp_ge (tgt := 19) hx hb dX0_chain_13 (by decide) (fun hc => ?_) (fun hc => ?_)
    · replace hF := (if_pos hc).symm.trans hF
      refine lv_aload_n hx hb dX0_chain_19 rfl (lv_at hl 0 rfl) ?_
      obtain ⟨hg, hF⟩ := dx_gd_some hF
      refine cl_gr S V e0 k2 rfl (by decide) in_X0 7 (by decide) rfl q275 rfl dX0_chain_20 (of_decide_eq_true hg) (fun bb3 ee3 => ?_)
      refine lv_aload_n hx hb dX0_chain_23 rfl (lv_at hl 0 rfl) ?_
      obtain ⟨hg, hF⟩ := dx_gd_some hF
      refine cl_gr S V e0 k2 rfl (by decide) in_X0 4 (by decide) rfl q272 rfl dX0_chain_24 (of_decide_eq_true hg) (fun bb4 ee4 => ?_)
      refine lv_iload_n hx hb dX0_chain_27 rfl (lv_at hl 1 rfl) ?_
      refine lv_iload_n hx hb dX0_chain_28 rfl (lv_at hl 2 rfl) ?_
      refine lv_iload_n hx hb dX0_chain_29 rfl (lv_at hl 3 rfl) ?_
      obtain ⟨hg, hF⟩ := dx_gd_some hF
      have k6 := of_decide_eq_true hg
      obtain ⟨r5, σ5, h5c, hF⟩ := dx_b2_some hF
      refine cl_ci (va_runV (As := [.ref bb4, .int p0, .int p1, .int p2]) S (cm_X4_find l D dA _ A bb3 bb4 (cl_r σ0 o0 7) (cl_r σ0 o0 4) p0 p1 p2 σ0 _ _ ee3 ee4 h5c) (cwV 4 hts (lw_V q1215 q1216 q1217 q81 q1218) rfl rfl rfl ⟨rfl, cd_X4_find⟩ ⟨Nat.le_of_ble_eq_true rfl, Nat.le_of_ble_eq_true rfl⟩) (cl_preV V [.ref bb4, .int p0, .int p1, .int p2] ee3 k6 rfl (by decide)) rfl rfl hl.1 rfl (lv_room (Nat.le_of_ble_eq_true rfl)) dX0_chain_30 ⟨Nat.le_of_ble_eq_true rfl, Nat.le_of_ble_eq_true rfl⟩) V (fun ad _ _ hag hle V => ?_)
      replace e0 := e0.mv hag hle
      refine lv_if_ne (tgt := 39) hx hb dX0_chain_33 (by decide) (fun hc => ?_) (fun hc => ?_)
      · replace hF := dx_ib_t (dx_bI_n hc) hF
        refine lv_iload hx hb dX0_chain_39 (lv_at hl 4 rfl) ?_
        refine lv_iconst (v := (-1)) hx hb dX0_chain_41 (by decide) ?_
        refine lv_icmp_ne (tgt := 55) hx hb dX0_chain_42 (by decide) (fun hc => ?_) (fun hc => ?_)
        · replace hF := (if_neg hc).symm.trans hF
          refine lv_iload hx hb dX0_chain_55 (lv_at hl 4 rfl) ?_
          refine lv_aload_n hx hb dX0_chain_57 rfl (lv_at hl 0 rfl) ?_
          obtain ⟨hg, hF⟩ := dx_gd_some hF
          have k7 := of_decide_eq_true hg
          obtain ⟨hg, hF⟩ := dx_gd_some hF
          refine cl_gr S V e0 k7 rfl (by decide) in_X0 7 (by decide) rfl q275 rfl dX0_chain_58 (of_decide_eq_true hg) (fun bb8 ee8 => ?_)
          obtain ⟨hg, hF⟩ := dx_gd_some hF
          have k9 := of_decide_eq_true hg
          refine cl_gi S V ee8 k9 rfl (by decide) in_X4 7 (by decide) rfl q234 rfl dX0_chain_61 ?_
          refine lv_icmp_ge (tgt := 80) hx hb dX0_chain_64 (by decide) (fun hc => ?_) (fun hc => ?_)
          · replace hF := (if_pos hc).symm.trans hF
            refine lv_ldc hx hb hown (hts _ q1134) dX0_chain_80 ?_
            obtain ⟨hF1, hF2⟩ := dx_r2 hF
            subst hF1
            subst hF2
            exact cl_ri S V hr hlocks rfl dX0_chain_82
          · replace hF := (if_neg hc).symm.trans hF
            refine lv_aload_n hx hb dX0_chain_67 rfl (lv_at hl 0 rfl) ?_
            obtain ⟨hg, hF⟩ := dx_gd_some hF
            refine cl_gr S V e0 k7 rfl (by decide) in_X0 7 (by decide) rfl q275 rfl dX0_chain_68 (of_decide_eq_true hg) (fun bb10 ee10 => ?_)
            obtain ⟨hg, hF⟩ := dx_gd_some hF
            refine cl_gr S V ee10 k9 rfl (by decide) in_X4 6 (by decide) rfl q232 rfl dX0_chain_71 (of_decide_eq_true hg) (fun bb11 ee11 => ?_)
            refine lv_iload hx hb dX0_chain_74 (lv_at hl 4 rfl) ?_
            obtain ⟨hg, hF⟩ := dx_gd_some hF
            have k12 := of_decide_eq_true hg
            obtain ⟨hg, hF⟩ := dx_gd_some hF
            refine cl_ld S V ee11 k12 (dx_inb_in hg) dX0_chain_76 ?_
            refine lv_goto (tgt := 82) hx hb dX0_chain_77 (by decide) ?_
            obtain ⟨hF1, hF2⟩ := dx_r2 hF
            subst hF1
            subst hF2
            exact cl_ri S V hr hlocks rfl dX0_chain_82
        · replace hF := (if_pos hc).symm.trans hF
          refine lv_aload_n hx hb dX0_chain_45 rfl (lv_at hl 0 rfl) ?_
          obtain ⟨hg, hF⟩ := dx_gd_some hF
          have k13 := of_decide_eq_true hg
          obtain ⟨hg, hF⟩ := dx_gd_some hF
          refine cl_gr S V e0 k13 rfl (by decide) in_X0 7 (by decide) rfl q275 rfl dX0_chain_46 (of_decide_eq_true hg) (fun bb14 ee14 => ?_)
          obtain ⟨hg, hF⟩ := dx_gd_some hF
          have k15 := of_decide_eq_true hg
          refine cl_gi S V ee14 k15 rfl (by decide) in_X4 7 (by decide) rfl q234 rfl dX0_chain_49 ?_
          refine lv_goto (tgt := 82) hx hb dX0_chain_52 (by decide) ?_
          obtain ⟨hF1, hF2⟩ := dx_r2 hF
          subst hF1
          subst hF2
          exact cl_ri S V hr hlocks rfl dX0_chain_82
      · replace hF := dx_ib_f (dx_bI_0 hc) hF
        refine lv_ldc hx hb hown (hts _ q1134) dX0_chain_36 ?_
        obtain ⟨hF1, hF2⟩ := dx_r2 hF
        subst hF1
        subst hF2
        exact cl_ri S V hr hlocks rfl dX0_chain_38
    · replace hF := (if_neg hc).symm.trans hF
      refine lv_ldc hx hb hown (hts _ q406) dX0_chain_16 ?_
      obtain ⟨hF1, hF2⟩ := dx_r2 hF
      subst hF1
      subst hF2
      exact cl_ri S V hr hlocks rfl dX0_chain_18
theorem cd_X0_isAccounted : yX0_isAccounted.cls ≠ "java/lang/invoke/MethodHandle" ∧ yX0_isAccounted.cls ≠ "java/lang/invoke/VarHandle" ∧ (parseMethodDescriptor yX0_isAccounted.desc).map (fun d => d.parameters.length) = some 0 := by decide +kernel
set_option maxHeartbeats 4000000 in
set_option maxRecDepth 100000 in
theorem cm_X0_isAccounted (l : Launch) (D : va_G) (dA : Nat → ClassId) (ad0 : Nat → Nat) (A : Nat → Prop) (a0 : Nat) (o0 : Nat)  (σ0 : cl_S) (r : Bool) (e0 : cl_at ad0 σ0 a0 o0) (hF : cl_X0_isAccounted o0 σ0 = some r) : cl_Ci l yX0_isAccounted cX0_isAccounted 2 .boolean ({ frames := 2, cells := 0, slots := 0, locals := 44 }) D dA ad0 A [.ref a0] σ0 (dx_bI r) σ0 := by
  refine cl_in RX0 rfl (by decide) (Nat.le_of_ble_eq_true rfl) ?_
  intro p e s m below meth c ls S hr hlocks hini hv hl
  have hx := S.1
  have hb := S.2.1
  have hown := S.2.2.2.1
  have hts := S.2.2.2.2
  obtain ⟨hN, hK, hP, hD, hA, hZ⟩ := hv
  have V : cl_V D dA (ad0, cl_n σ0) ad0 A s.heap σ0 s s.heap [] := ⟨hN, hK, hP, hD, va_S.rf, hA, hZ, fun _ _ => rfl, Nat.le_refl _⟩
  obtain ⟨ad, V, e0⟩ : ∃ ad, cl_V D dA (ad0, cl_n σ0) ad A s.heap σ0 s s.heap [] ∧ cl_at ad σ0 a0 o0 := ⟨ad0, V, e0⟩
  replace hl : lv_has ls 2 [(0, .ref a0)] := hl
  unfold cl_X0_isAccounted at hF
  have hL2 : ∀  (n : Nat) (v1 : Int32) (ad : Nat → Nat) (H : Heap) (locs : List Loc) (ls : Array Slot), dx_lp (fun x => cl_X0_isAccounted_L2 o0 σ0 x) n v1 = some r → cl_at ad σ0 a0 o0 → cl_V D dA (ad0, cl_n σ0) ad A s.heap σ0 s H locs → lv_has ls 2 [(0, .ref a0), (1, .int v1)] → W p l e ({ frames := 2, cells := 0, slots := 0, locals := 44 }) s m ([.ref a0] : List Value).toArray below meth c H locs 0 0 (MQ below (cl_Qi D dA ad0 A σ0 σ0 (dx_bI r)) ([.ref a0] : List Value).toArray s 0 0 A) (F0 m 2 ls []) := by
    intro n
    induction n with
    | zero =>
      intro v1 ad H locs ls hF e0 V hl
      exact (dx_lp_0 hF).elim
    | succ n ih2 =>
      intro v1 ad H locs ls hF e0 V hl
      obtain ⟨y2, hF, hz2⟩ := dx_lp_s hF
      replace hF : cl_X0_isAccounted_L2 o0 σ0 v1 = some y2 := hF
      unfold cl_X0_isAccounted_L2 at hF
      refine lv_iload_n hx hb dX0_isAccounted_2 rfl (lv_at hl 1 rfl) ?_
      refine lv_aload_n hx hb dX0_isAccounted_3 rfl (lv_at hl 0 rfl) ?_
      obtain ⟨hg, hF⟩ := dx_gd_some hF
      have k1 := of_decide_eq_true hg
      obtain ⟨hg, hF⟩ := dx_gd_some hF
      refine cl_gr S V e0 k1 rfl (by decide) in_X0 4 (by decide) rfl q272 rfl dX0_isAccounted_4 (of_decide_eq_true hg) (fun bb2 ee2 => ?_)
      obtain ⟨hg, hF⟩ := dx_gd_some hF
      have k3 := of_decide_eq_true hg
      refine cl_gi S V ee2 k3 rfl (by decide) in_X2 0 (by decide) rfl q152 rfl dX0_isAccounted_7 ?_
      refine lv_icmp_ge (tgt := 59) hx hb dX0_isAccounted_10 (by decide) (fun hc => ?_) (fun hc => ?_)
      · replace hF := (if_pos hc).symm.trans hF
        replace hF := dx_ex_k hF hz2
        refine lv_iconst (v := 1) hx hb dX0_isAccounted_59 (by decide) ?_
        replace hF := Option.some.inj hF
        subst hF
        exact cl_ri S V hr hlocks rfl dX0_isAccounted_60
      · replace hF := (if_neg hc).symm.trans hF
        refine lv_aload_n hx hb dX0_isAccounted_13 rfl (lv_at hl 0 rfl) ?_
        obtain ⟨hg, hF⟩ := dx_gd_some hF
        refine cl_gr S V e0 k1 rfl (by decide) in_X0 4 (by decide) rfl q272 rfl dX0_isAccounted_14 (of_decide_eq_true hg) (fun bb4 ee4 => ?_)
        obtain ⟨hg, hF⟩ := dx_gd_some hF
        refine cl_gr S V ee4 k3 rfl (by decide) in_X2 5 (by decide) rfl q169 rfl dX0_isAccounted_17 (of_decide_eq_true hg) (fun bb5 ee5 => ?_)
        refine lv_iload_n hx hb dX0_isAccounted_20 rfl (lv_at hl 1 rfl) ?_
        obtain ⟨hg, hF⟩ := dx_gd_some hF
        have k6 := of_decide_eq_true hg
        obtain ⟨hg, hF⟩ := dx_gd_some hF
        refine cl_ld S V ee5 k6 (dx_inb_in hg) dX0_isAccounted_21 ?_
        refine lv_if_lt (tgt := 53) hx hb dX0_isAccounted_22 (by decide) (fun hc => ?_) (fun hc => ?_)
        · replace hF := (if_pos hc).symm.trans hF
          refine lv_iinc (v := (v1 + (1 : Int32))) (lv' := [(1, .int (v1 + (1 : Int32))), (0, .ref a0)]) hx hb dX0_isAccounted_53 hl (k := 1) rfl rfl (by decide) rfl (fun ls hl => ?_)
          refine lv_goto (tgt := 2) hx hb dX0_isAccounted_56 (by decide) ?_
          replace hF := Option.some.inj hF
          subst hF
          exact ih2 (v1 + (1 : Int32)) _ _ _ _ (dx_lk_l hz2) e0 V (lv_sub hl [1, 0] rfl)
        · replace hF := (if_neg hc).symm.trans hF
          refine lv_aload_n hx hb dX0_isAccounted_25 rfl (lv_at hl 0 rfl) ?_
          obtain ⟨hg, hF⟩ := dx_gd_some hF
          refine cl_gr S V e0 k1 rfl (by decide) in_X0 6 (by decide) rfl q274 rfl dX0_isAccounted_26 (of_decide_eq_true hg) (fun bb7 ee7 => ?_)
          obtain ⟨hg, hF⟩ := dx_gd_some hF
          have k8 := of_decide_eq_true hg
          obtain ⟨hg, hF⟩ := dx_gd_some hF
          refine cl_gr S V ee7 k8 rfl (by decide) in_X3 0 (by decide) rfl q215 rfl dX0_isAccounted_29 (of_decide_eq_true hg) (fun bb9 ee9 => ?_)
          refine lv_iload_n hx hb dX0_isAccounted_32 rfl (lv_at hl 1 rfl) ?_
          obtain ⟨hg, hF⟩ := dx_gd_some hF
          have k10 := of_decide_eq_true hg
          obtain ⟨hg, hF⟩ := dx_gd_some hF
          refine cl_ld S V ee9 k10 (dx_inb_in hg) dX0_isAccounted_33 ?_
          refine lv_iconst (v := 0) hx hb dX0_isAccounted_34 (by decide) ?_
          refine lv_aload_n hx hb dX0_isAccounted_35 rfl (lv_at hl 0 rfl) ?_
          obtain ⟨hg, hF⟩ := dx_gd_some hF
          refine cl_gr S V e0 k1 rfl (by decide) in_X0 4 (by decide) rfl q272 rfl dX0_isAccounted_36 (of_decide_eq_true hg) (fun bb11 ee11 => ?_)
          obtain ⟨hg, hF⟩ := dx_gd_some hF
          refine cl_gr S V ee11 k3 rfl (by decide) in_X2 5 (by decide) rfl q169 rfl dX0_isAccounted_39 (of_decide_eq_true hg) (fun bb12 ee12 => ?_)
          refine lv_iload_n hx hb dX0_isAccounted_42 rfl (lv_at hl 1 rfl) ?_
          obtain ⟨hg, hF⟩ := dx_gd_some hF
          refine cl_ld S V ee12 k6 (dx_inb_in hg) dX0_isAccounted_43 ?_
          obtain ⟨r13, h13c, hF⟩ := dx_b1_some hF
          refine dx_cPi S [.int (0 : Int32), .int (cl_i σ0 (cl_r σ0 (cl_r σ0 o0 4) 5) v1.toNatClampNeg)] (cm_X17_daysFrom l (0 : Int32) (cl_i σ0 (cl_r σ0 (cl_r σ0 o0 4) 5) v1.toNatClampNeg) _ h13c) (va_cwS 2 hts (lw_S q1337 q1202 q112 q1203) rfl rfl rfl cd_X17_daysFrom ⟨Nat.le_of_ble_eq_true rfl, Nat.le_of_ble_eq_true rfl⟩) rfl rfl hl.1 (Nat.le_of_ble_eq_true rfl) dX0_isAccounted_44 ⟨Nat.le_of_ble_eq_true rfl, Nat.le_of_ble_eq_true rfl⟩ ?_
          refine lv_iand hx hb dX0_isAccounted_47 ?_
          refine lv_if_ne (tgt := 53) hx hb dX0_isAccounted_48 (by decide) (fun hc => ?_) (fun hc => ?_)
          · replace hF := (if_neg hc).symm.trans hF
            refine lv_iinc (v := (v1 + (1 : Int32))) (lv' := [(1, .int (v1 + (1 : Int32))), (0, .ref a0)]) hx hb dX0_isAccounted_53 hl (k := 1) rfl rfl (by decide) rfl (fun ls hl => ?_)
            refine lv_goto (tgt := 2) hx hb dX0_isAccounted_56 (by decide) ?_
            replace hF := Option.some.inj hF
            subst hF
            exact ih2 (v1 + (1 : Int32)) _ _ _ _ (dx_lk_l hz2) e0 V (lv_sub hl [1, 0] rfl)
          · replace hF := (if_pos hc).symm.trans hF
            replace hF := dx_ex_k hF hz2
            refine lv_iconst (v := 0) hx hb dX0_isAccounted_51 (by decide) ?_
            replace hF := Option.some.inj hF
            subst hF
            exact cl_ri S V hr hlocks rfl dX0_isAccounted_52
  refine lv_iconst (v := 0) hx hb dX0_isAccounted_0 (by decide) ?_
  refine lv_istore_n (lv' := [(1, .int (0 : Int32)), (0, .ref a0)]) hx hb dX0_isAccounted_1 rfl hl (by decide) rfl (fun ls hl => ?_)
  exact hL2  dx_fu (0 : Int32) _ _ _ _ hF e0 V (lv_sub hl [1, 0] rfl)
theorem cd_X0_accountsOf : yX0_accountsOf.cls ≠ "java/lang/invoke/MethodHandle" ∧ yX0_accountsOf.cls ≠ "java/lang/invoke/VarHandle" ∧ (parseMethodDescriptor yX0_accountsOf.desc).map (fun d => d.parameters.length) = some 1 := by decide +kernel
set_option maxHeartbeats 4000000 in
set_option maxRecDepth 100000 in
theorem cm_X0_accountsOf (l : Launch) (D : va_G) (dA : Nat → ClassId) (ad0 : Nat → Nat) (A : Nat → Prop) (a0 : Nat) (o0 : Nat) (p0 : Int32) (σ0 : cl_S) (r : Int32) (σ' : cl_S) (e0 : cl_at ad0 σ0 a0 o0) (hF : cl_X0_accountsOf o0 σ0 p0 = some (r, σ')) : cl_Ci l yX0_accountsOf cX0_accountsOf 4 .int ({ frames := 6, cells := 0, slots := 0, locals := 140 }) D dA ad0 A [.ref a0, .int p0] σ0 r σ' := by
  refine cl_in RX0 rfl (by decide) (Nat.le_of_ble_eq_true rfl) ?_
  intro p e s m below meth c ls S hr hlocks hini hv hl
  have hx := S.1
  have hb := S.2.1
  have hown := S.2.2.2.1
  have hts := S.2.2.2.2
  obtain ⟨hN, hK, hP, hD, hA, hZ⟩ := hv
  have V : cl_V D dA (ad0, cl_n σ0) ad0 A s.heap σ0 s s.heap [] := ⟨hN, hK, hP, hD, va_S.rf, hA, hZ, fun _ _ => rfl, Nat.le_refl _⟩
  obtain ⟨ad, V, e0⟩ : ∃ ad, cl_V D dA (ad0, cl_n σ0) ad A s.heap σ0 s s.heap [] ∧ cl_at ad σ0 a0 o0 := ⟨ad0, V, e0⟩
  replace hl : lv_has ls 4 [(0, .ref a0), (1, .int p0)] := hl
  unfold cl_X0_accountsOf at hF
  have hL4 : ∀ (v1 : Int32) (n : Nat) (v2 : Int32) (v3 : Int32) (σ : cl_S) (ad : Nat → Nat) (H : Heap) (locs : List Loc) (ls : Array Slot), dx_lp (fun x => cl_X0_accountsOf_L4 o0 x.2.2 v1 x.1 x.2.1) n (v2, v3, σ) = some (r, σ') → cl_at ad σ a0 o0 → cl_V D dA (ad0, cl_n σ0) ad A s.heap σ s H locs → lv_has ls 4 [(0, .ref a0), (1, .int v1), (2, .int v2), (3, .int v3)] → W p l e ({ frames := 6, cells := 0, slots := 0, locals := 140 }) s m ([.ref a0, .int p0] : List Value).toArray below meth c H locs 0 0 (MQ below (cl_Qi D dA ad0 A σ0 σ' r) ([.ref a0, .int p0] : List Value).toArray s 0 0 A) (F0 m 4 ls []) := by
    intro v1 n
    induction n with
    | zero =>
      intro v2 v3 σ ad H locs ls hF e0 V hl
      exact (dx_lp_0 hF).elim
    | succ n ih4 =>
      intro v2 v3 σ ad H locs ls hF e0 V hl
      obtain ⟨y4, hF, hz4⟩ := dx_lp_s hF
      replace hF : cl_X0_accountsOf_L4 o0 σ v1 v2 v3 = some y4 := hF
      unfold cl_X0_accountsOf_L4 at hF
      refine lv_iload_n hx hb dX0_accountsOf_4 rfl (lv_at hl 3 rfl) ?_
      refine lv_bipush (v := 31) hx hb dX0_accountsOf_5 (by decide) ?_
      refine lv_icmp_ge (tgt := 48) hx hb dX0_accountsOf_7 (by decide) (fun hc => ?_) (fun hc => ?_)
      · replace hF := (if_pos hc).symm.trans hF
        replace hF := dx_ex_k hF hz4
        refine lv_iload_n hx hb dX0_accountsOf_48 rfl (lv_at hl 2 rfl) ?_
        obtain ⟨hF1, hF2⟩ := dx_r2 hF
        subst hF1
        subst hF2
        exact cl_ri S V hr hlocks rfl dX0_accountsOf_49
      · replace hF := (if_neg hc).symm.trans hF
        refine lv_aload_n hx hb dX0_accountsOf_10 rfl (lv_at hl 0 rfl) ?_
        obtain ⟨hg, hF⟩ := dx_gd_some hF
        have k1 := of_decide_eq_true hg
        obtain ⟨hg, hF⟩ := dx_gd_some hF
        refine cl_gr S V e0 k1 rfl (by decide) in_X0 6 (by decide) rfl q274 rfl dX0_accountsOf_11 (of_decide_eq_true hg) (fun bb2 ee2 => ?_)
        refine lv_aload_n hx hb dX0_accountsOf_14 rfl (lv_at hl 0 rfl) ?_
        obtain ⟨hg, hF⟩ := dx_gd_some hF
        refine cl_gr S V e0 k1 rfl (by decide) in_X0 4 (by decide) rfl q272 rfl dX0_accountsOf_15 (of_decide_eq_true hg) (fun bb3 ee3 => ?_)
        refine lv_iload_n hx hb dX0_accountsOf_18 rfl (lv_at hl 1 rfl) ?_
        refine lv_iload_n hx hb dX0_accountsOf_19 rfl (lv_at hl 3 rfl) ?_
        refine lv_iconst (v := 0) hx hb dX0_accountsOf_20 (by decide) ?_
        obtain ⟨hg, hF⟩ := dx_gd_some hF
        have k5 := of_decide_eq_true hg
        obtain ⟨r4, σ4, h4c, hF⟩ := dx_b2_some hF
        obtain ⟨hg, hF⟩ := dx_gd_some hF
        refine cl_cr (va_runV (As := [.ref bb3, .int v1, .int v3, .int (0 : Int32)]) S (cm_X3_go l D dA _ A bb2 bb3 (cl_r σ o0 6) (cl_r σ o0 4) v1 v3 (0 : Int32) σ _ _ ee2 ee3 h4c) (cwV 4 hts (lw_V q1155 q1156 q1157 q80 q1158) rfl rfl rfl ⟨rfl, cd_X3_go⟩ ⟨Nat.le_of_ble_eq_true rfl, Nat.le_of_ble_eq_true rfl⟩) (cl_preV V [.ref bb3, .int v1, .int v3, .int (0 : Int32)] ee2 k5 rfl (by decide)) rfl rfl hl.1 rfl (lv_room (Nat.le_of_ble_eq_true rfl)) dX0_accountsOf_21 ⟨Nat.le_of_ble_eq_true rfl, Nat.le_of_ble_eq_true rfl⟩) V (of_decide_eq_true hg) (fun bb4 ad _ _ hag hle ee4 V => ?_)
        replace e0 := e0.mv hag hle
        refine lv_pop hx hb dX0_accountsOf_24 rfl ?_
        refine lv_iload_n hx hb dX0_accountsOf_25 rfl (lv_at hl 2 rfl) ?_
        refine lv_aload_n hx hb dX0_accountsOf_26 rfl (lv_at hl 0 rfl) ?_
        obtain ⟨hg, hF⟩ := dx_gd_some hF
        have k7 := of_decide_eq_true hg
        obtain ⟨r6, h6c, hF⟩ := dx_b1_some hF
        refine cl_ci (va_runV (As := []) S (cm_X0_isAccounted l D dA _ A a0 o0  σ4 _ e0 h6c) (cwV 0 hts (lw_V q1333 q1335 qs26 q77 q1336) rfl rfl rfl ⟨rfl, cd_X0_isAccounted⟩ ⟨Nat.le_of_ble_eq_true rfl, Nat.le_of_ble_eq_true rfl⟩) (cl_preV V [] e0 k7 rfl (by decide)) rfl rfl hl.1 rfl (lv_room (Nat.le_of_ble_eq_true rfl)) dX0_accountsOf_27 ⟨Nat.le_of_ble_eq_true rfl, Nat.le_of_ble_eq_true rfl⟩) V (fun ad _ _ hag hle V => ?_)
        replace e0 := e0.mv hag hle
        refine lv_if_eq (tgt := 39) hx hb dX0_accountsOf_30 (by decide) (fun hc => ?_) (fun hc => ?_)
        · replace hF := dx_ib_f (dx_bI_0 hc) hF
          refine lv_iconst (v := 0) hx hb dX0_accountsOf_39 (by decide) ?_
          refine lv_ior hx hb dX0_accountsOf_40 ?_
          refine lv_istore_n (lv' := [(2, .int (v2 ||| (0 : Int32))), (0, .ref a0), (1, .int v1), (3, .int v3)]) hx hb dX0_accountsOf_41 rfl hl (by decide) rfl (fun ls hl => ?_)
          refine lv_iinc (v := (v3 + (1 : Int32))) (lv' := [(3, .int (v3 + (1 : Int32))), (2, .int (v2 ||| (0 : Int32))), (0, .ref a0), (1, .int v1)]) hx hb dX0_accountsOf_42 hl (k := 3) rfl rfl (by decide) rfl (fun ls hl => ?_)
          refine lv_goto (tgt := 4) hx hb dX0_accountsOf_45 (by decide) ?_
          replace hF := Option.some.inj hF
          subst hF
          exact ih4 (v2 ||| (0 : Int32)) (v3 + (1 : Int32)) σ4 _ _ _ _ (dx_lk_l hz4) e0 V (lv_sub hl [2, 3, 1, 0] rfl)
        · replace hF := dx_ib_t (dx_bI_n hc) hF
          refine lv_iconst (v := 1) hx hb dX0_accountsOf_33 (by decide) ?_
          refine lv_iload_n hx hb dX0_accountsOf_34 rfl (lv_at hl 3 rfl) ?_
          refine lv_ishl hx hb dX0_accountsOf_35 ?_
          refine lv_goto (tgt := 40) hx hb dX0_accountsOf_36 (by decide) ?_
          refine lv_ior hx hb dX0_accountsOf_40 ?_
          refine lv_istore_n (lv' := [(2, .int (v2 ||| ((1 : Int32) <<< (v3 &&& 31)))), (0, .ref a0), (1, .int v1), (3, .int v3)]) hx hb dX0_accountsOf_41 rfl hl (by decide) rfl (fun ls hl => ?_)
          refine lv_iinc (v := (v3 + (1 : Int32))) (lv' := [(3, .int (v3 + (1 : Int32))), (2, .int (v2 ||| ((1 : Int32) <<< (v3 &&& 31)))), (0, .ref a0), (1, .int v1)]) hx hb dX0_accountsOf_42 hl (k := 3) rfl rfl (by decide) rfl (fun ls hl => ?_)
          refine lv_goto (tgt := 4) hx hb dX0_accountsOf_45 (by decide) ?_
          replace hF := Option.some.inj hF
          subst hF
          exact ih4 (v2 ||| ((1 : Int32) <<< (v3 &&& 31))) (v3 + (1 : Int32)) σ4 _ _ _ _ (dx_lk_l hz4) e0 V (lv_sub hl [2, 3, 1, 0] rfl)
  refine lv_iconst (v := 0) hx hb dX0_accountsOf_0 (by decide) ?_
  refine lv_istore_n (lv' := [(2, .int (0 : Int32)), (0, .ref a0), (1, .int p0)]) hx hb dX0_accountsOf_1 rfl hl (by decide) rfl (fun ls hl => ?_)
  refine lv_iconst (v := 0) hx hb dX0_accountsOf_2 (by decide) ?_
  refine lv_istore_n (lv' := [(3, .int (0 : Int32)), (2, .int (0 : Int32)), (0, .ref a0), (1, .int p0)]) hx hb dX0_accountsOf_3 rfl hl (by decide) rfl (fun ls hl => ?_)
  exact hL4 p0 dx_fu (0 : Int32) (0 : Int32) σ0 _ _ _ _ hF e0 V (lv_sub hl [2, 3, 1, 0] rfl)
