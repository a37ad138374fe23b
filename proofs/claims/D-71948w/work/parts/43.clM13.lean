/-! the class side read back and walked (printed by gen/clmain.py) -/
theorem cd_X0_copy : yX0_copy.cls ≠ "java/lang/invoke/MethodHandle" ∧ yX0_copy.cls ≠ "java/lang/invoke/VarHandle" ∧ (parseMethodDescriptor yX0_copy.desc).map (fun d => d.parameters.length) = some 5 := by decide +kernel
set_option maxHeartbeats 4000000 in
set_option maxRecDepth 100000 in
theorem cm_X0_copy (l : Launch) (hlt : l.stackTraces = false) (D : va_G) (dA : Nat → ClassId) (ad0 : Nat → Nat) (A : Nat → Prop) (a0 : Nat) (o0 : Nat) (p0 : Int32) (p1 : Int32) (p2 : Int32) (p3 : Int32) (p4 : Int32) (σ0 : cl_S) (r : Int32) (σ' : cl_S) (e0 : cl_at ad0 σ0 a0 o0) (hF : cl_X0_copy o0 σ0 p0 p1 p2 p3 p4 = some (r, σ')) : cx_Hi l yX0_copy cX0_copy 7 .int [(17, 49, 50, 131), (17, 49, 58, 141), (17, 49, 66, 143)] ({ frames := 9, cells := 3, slots := 410, locals := 10248 }) D dA ad0 A [.ref a0, .int p0, .int p1, .int p2, .int p3, .int p4] σ0 r σ' := by
  refine cx_inH RX0 rfl (by decide) (Nat.le_of_ble_eq_true rfl) ?_
  intro p e s m below meth c ls S hr hlocks hini htab hv hl
  have hx := S.1
  have hb := S.2.1
  have hown := S.2.2.2.1
  have hts := S.2.2.2.2
  obtain ⟨hN, hK, hP, hD, hA, hZ⟩ := hv
  have V : cl_V D dA (ad0, cl_n σ0) ad0 A s.heap σ0 s s.heap [] := ⟨hN, hK, hP, hD, va_S.rf, hA, hZ, fun _ _ => rfl, Nat.le_refl _⟩
  obtain ⟨ad, V, e0⟩ : ∃ ad, cl_V D dA (ad0, cl_n σ0) ad A s.heap σ0 s s.heap [] ∧ cl_at ad σ0 a0 o0 := ⟨ad0, V, e0⟩
  replace hl : lv_has ls 7 [(0, .ref a0), (1, .int p0), (2, .int p1), (3, .int p2), (4, .int p3), (5, .int p4)] := hl
  unfold cl_X0_copy at hF
  refine lv_iload_n hx hb dX0_copy_0 rfl (lv_at hl 1 rfl) ?_
  obtain ⟨r1, h1c, hF⟩ := dx_b1_some hF
  refine dx_cPi S [.int p0] (cm_X0_isRow l p0 _ h1c) (va_cwS 1 hts (lw_S q398 q399 q77 q400) rfl rfl rfl cd_X0_isRow ⟨Nat.le_of_ble_eq_true rfl, Nat.le_of_ble_eq_true rfl⟩) rfl rfl hl.1 (Nat.le_of_ble_eq_true rfl) dX0_copy_1 ⟨Nat.le_of_ble_eq_true rfl, Nat.le_of_ble_eq_true rfl⟩ ?_
  refine lv_if_eq (tgt := 14) hx hb dX0_copy_4 (by decide) (fun hc => ?_) (fun hc => ?_)
  · replace hF := dx_ib_f (dx_bI_0 hc) hF
    refine lv_ldc hx hb hown (hts _ q406) dX0_copy_14 ?_
    refine W.widen (k := 3) (n := 410) (by first | omega | (dsimp only; omega)) (by first | omega | (dsimp only; omega)) ?_
    obtain ⟨hF1, hF2⟩ := dx_r2 hF
    subst hF1
    subst hF2
    exact vx_ret (cl_ri S V hr hlocks rfl dX0_copy_16)
  · replace hF := dx_ib_t (dx_bI_n hc) hF
    refine lv_iload_n hx hb dX0_copy_7 rfl (lv_at hl 3 rfl) ?_
    obtain ⟨r2, h2c, hF⟩ := dx_b1_some hF
    refine dx_cPi S [.int p2] (cm_X0_isRow l p2 _ h2c) (va_cwS 1 hts (lw_S q398 q399 q77 q400) rfl rfl rfl cd_X0_isRow ⟨Nat.le_of_ble_eq_true rfl, Nat.le_of_ble_eq_true rfl⟩) rfl rfl hl.1 (Nat.le_of_ble_eq_true rfl) dX0_copy_8 ⟨Nat.le_of_ble_eq_true rfl, Nat.le_of_ble_eq_true rfl⟩ ?_
    refine lv_if_ne (tgt := 17) hx hb dX0_copy_11 (by decide) (fun hc => ?_) (fun hc => ?_)
    · replace hF := dx_ib_t (dx_bI_n hc) hF
      refine lv_aload_n hx hb dX0_copy_17 rfl (lv_at hl 0 rfl) ?_
      obtain ⟨hg, hF⟩ := dx_gd_some hF
      have k3 := of_decide_eq_true hg
      obtain ⟨hg, hF⟩ := dx_gd_some hF
      refine cl_gr S V e0 k3 rfl (by decide) in_X0 0 (by decide) rfl q268 rfl dX0_copy_18 (of_decide_eq_true hg) (fun bb4 ee4 => ?_)
      refine lv_iload_n hx hb dX0_copy_21 rfl (lv_at hl 1 rfl) ?_
      obtain ⟨hg, hF⟩ := dx_gd_some hF
      have k5 := of_decide_eq_true hg
      obtain ⟨hi6, hF⟩ := dx_gd_some hF
      obtain ⟨hg, hF⟩ := dx_gd_some hF
      refine cl_lr 3 24 S V ee4 k5 (by decide) rfl (dx_inb_in hi6) dX0_copy_22 (of_decide_eq_true hg) (fun bb7 ee7 => ?_)
      obtain ⟨hg, hF⟩ := dx_gd_some hF
      have k8 := of_decide_eq_true hg
      by_cases hn9 : (cl_r σ0 (cl_r σ0 (cl_r σ0 o0 0) p0.toNatClampNeg) 0) = 0
      · replace hF := (if_pos hn9).symm.trans hF
        refine cl_gnN S V ee7 k8 rfl (by decide) in_X1 0 (by decide) rfl cn_q136 rfl dX0_copy_23 hn9 ?_
        refine lv_iload_n hx hb dX0_copy_26 rfl (lv_at hl 2 rfl) ?_
        refine lv_aload_n hx hb dX0_copy_27 rfl (lv_at hl 0 rfl) ?_
        obtain ⟨hg, hF⟩ := dx_gd_some hF
        refine cl_gr S V e0 k3 rfl (by decide) in_X0 0 (by decide) rfl q268 rfl dX0_copy_28 (of_decide_eq_true hg) (fun bb10 ee10 => ?_)
        refine lv_iload_n hx hb dX0_copy_31 rfl (lv_at hl 3 rfl) ?_
        obtain ⟨hi11, hF⟩ := dx_gd_some hF
        obtain ⟨hg, hF⟩ := dx_gd_some hF
        refine cl_lr 3 24 S V ee10 k5 (by decide) rfl (dx_inb_in hi11) dX0_copy_32 (of_decide_eq_true hg) (fun bb12 ee12 => ?_)
        obtain ⟨hg, hF⟩ := dx_gd_some hF
        have k13 := of_decide_eq_true hg
        by_cases hn14 : (cl_r σ0 (cl_r σ0 (cl_r σ0 o0 0) p2.toNatClampNeg) 0) = 0
        · replace hF := (if_pos hn14).symm.trans hF
          refine cl_gnN S V ee12 k13 rfl (by decide) in_X1 0 (by decide) rfl cn_q136 rfl dX0_copy_33 hn14 ?_
          refine lv_iload hx hb dX0_copy_36 (lv_at hl 4 rfl) ?_
          refine lv_iload hx hb dX0_copy_38 (lv_at hl 5 rfl) ?_
          refine cx_cpN (Or.inl ⟨rfl, Or.inl rfl⟩) S V hlt hlocks hl.1 (Nat.le_of_ble_eq_true rfl) ⟨Nat.le_of_ble_eq_true rfl, Nat.le_of_ble_eq_true rfl⟩ ⟨Nat.le_of_ble_eq_true rfl, Nat.le_of_ble_eq_true rfl⟩ q498 q500 q499 q93  dX0_copy_40 (fun _ q9 ce V hce hcv hcl => ?_)
          refine vx_catch (E := "java/lang/NullPointerException") (name := "java/lang/NullPointerException") hown [] ⟨17, 49, 50, 131⟩ [⟨17, 49, 58, 141⟩, ⟨17, 49, 66, 143⟩] (by rw [htab]; rfl) (fun z h => nomatch h) rfl (by decide) (hts _ q424) (va_Nw.use rfl (V.1.1 _ cn_q446)) hce hcv hcl ?_
          refine lv_astore (lv' := [(6, .ref q9), (0, .ref a0), (1, .int p0), (2, .int p1), (3, .int p2), (4, .int p3), (5, .int p4)]) hx hb dX0_copy_50 hl (by decide) rfl (fun ls hl => ?_)
          refine lv_aload_n hx hb dX0_copy_52 rfl (lv_at hl 1 rfl) ?_
          refine lv_iconst (v := 1) hx hb dX0_copy_53 (by decide) ?_
          obtain ⟨r15, σ15, h15c, hF⟩ := dx_b2_some hF
          refine cl_ci (va_runV (As := [.int (1 : Int32)]) S (cm_X0_found l D dA _ A a0 o0 (1 : Int32) σ0 _ _ e0 h15c) (cwV 1 hts (lw_V q414 q416 qs3 q77 q417) rfl rfl rfl ⟨rfl, cd_X0_found⟩ ⟨Nat.le_of_ble_eq_true rfl, Nat.le_of_ble_eq_true rfl⟩) (cl_preV V [.int (1 : Int32)] e0 k3 rfl (by decide)) rfl rfl hl.1 rfl (lv_room (Nat.le_of_ble_eq_true rfl)) dX0_copy_54 ⟨Nat.le_of_ble_eq_true rfl, Nat.le_of_ble_eq_true rfl⟩) V (fun ad _ _ hag hle V => ?_)
          replace e0 := e0.mv hag hle
          refine W.widen (k := 3) (n := 410) (by first | omega | (dsimp only; omega)) (by first | omega | (dsimp only; omega)) ?_
          obtain ⟨hF1, hF2⟩ := dx_r2 hF
          subst hF1
          subst hF2
          exact vx_ret (cl_ri S V hr hlocks rfl dX0_copy_57)
        · replace hF := (if_neg hn14).symm.trans hF
          refine cl_grN S V ee12 k13 rfl (by decide) in_X1 0 (by decide) rfl cn_q136 rfl dX0_copy_33 hn14 (fun bb14 ee14 => ?_)
          refine lv_iload hx hb dX0_copy_36 (lv_at hl 4 rfl) ?_
          refine lv_iload hx hb dX0_copy_38 (lv_at hl 5 rfl) ?_
          refine cx_cpN (Or.inl ⟨rfl, Or.inr ⟨_, rfl⟩⟩) S V hlt hlocks hl.1 (Nat.le_of_ble_eq_true rfl) ⟨Nat.le_of_ble_eq_true rfl, Nat.le_of_ble_eq_true rfl⟩ ⟨Nat.le_of_ble_eq_true rfl, Nat.le_of_ble_eq_true rfl⟩ q498 q500 q499 q93  dX0_copy_40 (fun _ q9 ce V hce hcv hcl => ?_)
          refine vx_catch (E := "java/lang/NullPointerException") (name := "java/lang/NullPointerException") hown [] ⟨17, 49, 50, 131⟩ [⟨17, 49, 58, 141⟩, ⟨17, 49, 66, 143⟩] (by rw [htab]; rfl) (fun z h => nomatch h) rfl (by decide) (hts _ q424) (va_Nw.use rfl (V.1.1 _ cn_q446)) hce hcv hcl ?_
          refine lv_astore (lv' := [(6, .ref q9), (0, .ref a0), (1, .int p0), (2, .int p1), (3, .int p2), (4, .int p3), (5, .int p4)]) hx hb dX0_copy_50 hl (by decide) rfl (fun ls hl => ?_)
          refine lv_aload_n hx hb dX0_copy_52 rfl (lv_at hl 1 rfl) ?_
          refine lv_iconst (v := 1) hx hb dX0_copy_53 (by decide) ?_
          obtain ⟨r16, σ16, h16c, hF⟩ := dx_b2_some hF
          refine cl_ci (va_runV (As := [.int (1 : Int32)]) S (cm_X0_found l D dA _ A a0 o0 (1 : Int32) σ0 _ _ e0 h16c) (cwV 1 hts (lw_V q414 q416 qs3 q77 q417) rfl rfl rfl ⟨rfl, cd_X0_found⟩ ⟨Nat.le_of_ble_eq_true rfl, Nat.le_of_ble_eq_true rfl⟩) (cl_preV V [.int (1 : Int32)] e0 k3 rfl (by decide)) rfl rfl hl.1 rfl (lv_room (Nat.le_of_ble_eq_true rfl)) dX0_copy_54 ⟨Nat.le_of_ble_eq_true rfl, Nat.le_of_ble_eq_true rfl⟩) V (fun ad _ _ hag hle V => ?_)
          replace e0 := e0.mv hag hle
          refine W.widen (k := 3) (n := 410) (by first | omega | (dsimp only; omega)) (by first | omega | (dsimp only; omega)) ?_
          obtain ⟨hF1, hF2⟩ := dx_r2 hF
          subst hF1
          subst hF2
          exact vx_ret (cl_ri S V hr hlocks rfl dX0_copy_57)
      · replace hF := (if_neg hn9).symm.trans hF
        refine cl_grN S V ee7 k8 rfl (by decide) in_X1 0 (by decide) rfl cn_q136 rfl dX0_copy_23 hn9 (fun bb9 ee9 => ?_)
        refine lv_iload_n hx hb dX0_copy_26 rfl (lv_at hl 2 rfl) ?_
        refine lv_aload_n hx hb dX0_copy_27 rfl (lv_at hl 0 rfl) ?_
        obtain ⟨hg, hF⟩ := dx_gd_some hF
        refine cl_gr S V e0 k3 rfl (by decide) in_X0 0 (by decide) rfl q268 rfl dX0_copy_28 (of_decide_eq_true hg) (fun bb17 ee17 => ?_)
        refine lv_iload_n hx hb dX0_copy_31 rfl (lv_at hl 3 rfl) ?_
        obtain ⟨hi18, hF⟩ := dx_gd_some hF
        obtain ⟨hg, hF⟩ := dx_gd_some hF
        refine cl_lr 3 24 S V ee17 k5 (by decide) rfl (dx_inb_in hi18) dX0_copy_32 (of_decide_eq_true hg) (fun bb19 ee19 => ?_)
        obtain ⟨hg, hF⟩ := dx_gd_some hF
        have k20 := of_decide_eq_true hg
        by_cases hn21 : (cl_r σ0 (cl_r σ0 (cl_r σ0 o0 0) p2.toNatClampNeg) 0) = 0
        · replace hF := (if_pos hn21).symm.trans hF
          refine cl_gnN S V ee19 k20 rfl (by decide) in_X1 0 (by decide) rfl cn_q136 rfl dX0_copy_33 hn21 ?_
          refine lv_iload hx hb dX0_copy_36 (lv_at hl 4 rfl) ?_
          refine lv_iload hx hb dX0_copy_38 (lv_at hl 5 rfl) ?_
          refine cx_cpN (Or.inr ⟨rfl, _, rfl⟩) S V hlt hlocks hl.1 (Nat.le_of_ble_eq_true rfl) ⟨Nat.le_of_ble_eq_true rfl, Nat.le_of_ble_eq_true rfl⟩ ⟨Nat.le_of_ble_eq_true rfl, Nat.le_of_ble_eq_true rfl⟩ q498 q500 q499 q93  dX0_copy_40 (fun _ q9 ce V hce hcv hcl => ?_)
          refine vx_catch (E := "java/lang/NullPointerException") (name := "java/lang/NullPointerException") hown [] ⟨17, 49, 50, 131⟩ [⟨17, 49, 58, 141⟩, ⟨17, 49, 66, 143⟩] (by rw [htab]; rfl) (fun z h => nomatch h) rfl (by decide) (hts _ q424) (va_Nw.use rfl (V.1.1 _ cn_q446)) hce hcv hcl ?_
          refine lv_astore (lv' := [(6, .ref q9), (0, .ref a0), (1, .int p0), (2, .int p1), (3, .int p2), (4, .int p3), (5, .int p4)]) hx hb dX0_copy_50 hl (by decide) rfl (fun ls hl => ?_)
          refine lv_aload_n hx hb dX0_copy_52 rfl (lv_at hl 1 rfl) ?_
          refine lv_iconst (v := 1) hx hb dX0_copy_53 (by decide) ?_
          obtain ⟨r22, σ22, h22c, hF⟩ := dx_b2_some hF
          refine cl_ci (va_runV (As := [.int (1 : Int32)]) S (cm_X0_found l D dA _ A a0 o0 (1 : Int32) σ0 _ _ e0 h22c) (cwV 1 hts (lw_V q414 q416 qs3 q77 q417) rfl rfl rfl ⟨rfl, cd_X0_found⟩ ⟨Nat.le_of_ble_eq_true rfl, Nat.le_of_ble_eq_true rfl⟩) (cl_preV V [.int (1 : Int32)] e0 k3 rfl (by decide)) rfl rfl hl.1 rfl (lv_room (Nat.le_of_ble_eq_true rfl)) dX0_copy_54 ⟨Nat.le_of_ble_eq_true rfl, Nat.le_of_ble_eq_true rfl⟩) V (fun ad _ _ hag hle V => ?_)
          replace e0 := e0.mv hag hle
          refine W.widen (k := 3) (n := 410) (by first | omega | (dsimp only; omega)) (by first | omega | (dsimp only; omega)) ?_
          obtain ⟨hF1, hF2⟩ := dx_r2 hF
          subst hF1
          subst hF2
          exact vx_ret (cl_ri S V hr hlocks rfl dX0_copy_57)
        · replace hF := (if_neg hn21).symm.trans hF
          refine cl_grN S V ee19 k20 rfl (by decide) in_X1 0 (by decide) rfl cn_q136 rfl dX0_copy_33 hn21 (fun bb21 ee21 => ?_)
          refine lv_iload hx hb dX0_copy_36 (lv_at hl 4 rfl) ?_
          refine lv_iload hx hb dX0_copy_38 (lv_at hl 5 rfl) ?_
          obtain ⟨hg, hF⟩ := dx_gd_some hF
          replace hg := of_decide_eq_true hg
          by_cases heq : (cl_k σ0 (cl_r σ0 (cl_r σ0 (cl_r σ0 o0 0) p0.toNatClampNeg) 0)) = (cl_k σ0 (cl_r σ0 (cl_r σ0 (cl_r σ0 o0 0) p2.toNatClampNeg) 0))
          · replace hF := (if_pos heq).symm.trans hF
            by_cases hg1 : cl_cg σ0 (cl_r σ0 (cl_r σ0 (cl_r σ0 o0 0) p0.toNatClampNeg) 0) (cl_r σ0 (cl_r σ0 (cl_r σ0 o0 0) p2.toNatClampNeg) 0) p1 p3 p4 = true
            · replace hF := dx_ib_t hg1 hF
              obtain ⟨hg2, hF⟩ := dx_gd_some hF
              refine cx_cpO S V ee9 hg.1 ee21 heq hl.1 q498 q500 q499 q93 hg1 hg2 (Nat.le_of_ble_eq_true rfl) (Nat.le_of_ble_eq_true rfl) dX0_copy_40 (fun _ _ V => ?_)
              refine lv_aload_n hx hb dX0_copy_43 rfl (lv_at hl 0 rfl) ?_
              refine lv_iload hx hb dX0_copy_44 (lv_at hl 5 rfl) ?_
              obtain ⟨r25, σ25, h25c, hF⟩ := dx_b2_some hF
              refine cl_ci (va_runV (As := [.int p4]) S (cm_X0_well l D dA _ A a0 o0 p4 (cl_cp σ0 (cl_r σ0 (cl_r σ0 (cl_r σ0 o0 0) p0.toNatClampNeg) 0) (cl_r σ0 (cl_r σ0 (cl_r σ0 o0 0) p2.toNatClampNeg) 0) p1 p3 p4) _ _ e0 h25c) (cwV 1 hts (lw_V q410 q412 qs2 q77 q413) rfl rfl rfl ⟨rfl, cd_X0_well⟩ ⟨Nat.le_of_ble_eq_true rfl, Nat.le_of_ble_eq_true rfl⟩) (cl_preV V [.int p4] e0 k3 rfl (by decide)) rfl rfl hl.1 rfl (lv_room (Nat.le_of_ble_eq_true rfl)) dX0_copy_46 ⟨Nat.le_of_ble_eq_true rfl, Nat.le_of_ble_eq_true rfl⟩) V (fun ad _ _ hag hle V => ?_)
              replace e0 := e0.mv hag hle
              refine W.widen (k := 3) (n := 410) (by first | omega | (dsimp only; omega)) (by first | omega | (dsimp only; omega)) ?_
              obtain ⟨hF1, hF2⟩ := dx_r2 hF
              subst hF1
              subst hF2
              exact vx_ret (cl_ri S V hr hlocks rfl dX0_copy_49)
            · replace hg1 : cl_cg σ0 (cl_r σ0 (cl_r σ0 (cl_r σ0 o0 0) p0.toNatClampNeg) 0) (cl_r σ0 (cl_r σ0 (cl_r σ0 o0 0) p2.toNatClampNeg) 0) p1 p3 p4 = false := by simpa using hg1
              replace hF := dx_ib_f hg1 hF
              refine cx_cpB S V hlt hlocks hl.1 (Nat.le_of_ble_eq_true rfl) ⟨Nat.le_of_ble_eq_true rfl, Nat.le_of_ble_eq_true rfl⟩ ⟨Nat.le_of_ble_eq_true rfl, Nat.le_of_ble_eq_true rfl⟩ q498 q500 q499 q93 ee9 hg.1 ee21 heq hg.2.2.1 hg.2.2.2 hg1 dX0_copy_40 (fun _ q9 ce V hce hcv hcl => ?_)
              refine vx_catch (E := "java/lang/ArrayIndexOutOfBoundsException") (name := "java/lang/IndexOutOfBoundsException") hown [⟨17, 49, 50, 131⟩, ⟨17, 49, 58, 141⟩] ⟨17, 49, 66, 143⟩ [] (by rw [htab]; rfl) (List.forall_mem_cons.mpr ⟨Or.inr ⟨by decide, _, hts _ q424, V.1.2.2.2.2.2.2.1.2.2.1 _ nc_3⟩, List.forall_mem_cons.mpr ⟨Or.inr ⟨by decide, _, hts _ q483, V.1.2.2.2.2.2.2.1.2.2.1 _ nc_5⟩, fun z h => nomatch h⟩⟩) rfl (by decide) (hts _ q497) (va_Nw.use rfl (V.1.1 _ cn_q2069)) hce hcv hcl ?_
              refine lv_astore (lv' := [(6, .ref q9), (0, .ref a0), (1, .int p0), (2, .int p1), (3, .int p2), (4, .int p3), (5, .int p4)]) hx hb dX0_copy_66 hl (by decide) rfl (fun ls hl => ?_)
              refine lv_aload_n hx hb dX0_copy_68 rfl (lv_at hl 1 rfl) ?_
              refine lv_iconst (v := 2) hx hb dX0_copy_69 (by decide) ?_
              obtain ⟨r24, σ24, h24c, hF⟩ := dx_b2_some hF
              refine cl_ci (va_runV (As := [.int (2 : Int32)]) S (cm_X0_found l D dA _ A a0 o0 (2 : Int32) σ0 _ _ e0 h24c) (cwV 1 hts (lw_V q414 q416 qs3 q77 q417) rfl rfl rfl ⟨rfl, cd_X0_found⟩ ⟨Nat.le_of_ble_eq_true rfl, Nat.le_of_ble_eq_true rfl⟩) (cl_preV V [.int (2 : Int32)] e0 k3 rfl (by decide)) rfl rfl hl.1 rfl (lv_room (Nat.le_of_ble_eq_true rfl)) dX0_copy_70 ⟨Nat.le_of_ble_eq_true rfl, Nat.le_of_ble_eq_true rfl⟩) V (fun ad _ _ hag hle V => ?_)
              replace e0 := e0.mv hag hle
              refine W.widen (k := 3) (n := 410) (by first | omega | (dsimp only; omega)) (by first | omega | (dsimp only; omega)) ?_
              obtain ⟨hF1, hF2⟩ := dx_r2 hF
              subst hF1
              subst hF2
              exact vx_ret (cl_ri S V hr hlocks rfl dX0_copy_73)
          · have hne := heq; replace hF := (if_neg hne).symm.trans hF
            refine cx_cpT S V hlt hlocks hl.1 (Nat.le_of_ble_eq_true rfl) ⟨Nat.le_of_ble_eq_true rfl, Nat.le_of_ble_eq_true rfl⟩ ⟨Nat.le_of_ble_eq_true rfl, Nat.le_of_ble_eq_true rfl⟩ q498 q500 q499 q93 ee9 hg.1 ee21 hg.2.1 hne dX0_copy_40 (fun _ q9 ce V hce hcv hcl => ?_)
            refine vx_catch (E := "java/lang/ArrayStoreException") (name := "java/lang/ArrayStoreException") hown [⟨17, 49, 50, 131⟩] ⟨17, 49, 58, 141⟩ [⟨17, 49, 66, 143⟩] (by rw [htab]; rfl) (List.forall_mem_cons.mpr ⟨Or.inr ⟨by decide, _, hts _ q424, V.1.2.2.2.2.2.2.1.2.2.1 _ nc_4⟩, fun z h => nomatch h⟩) rfl (by decide) (hts _ q483) (va_Nw.use rfl (V.1.1 _ cn_q495)) hce hcv hcl ?_
            refine lv_astore (lv' := [(6, .ref q9), (0, .ref a0), (1, .int p0), (2, .int p1), (3, .int p2), (4, .int p3), (5, .int p4)]) hx hb dX0_copy_58 hl (by decide) rfl (fun ls hl => ?_)
            refine lv_aload_n hx hb dX0_copy_60 rfl (lv_at hl 1 rfl) ?_
            refine lv_iconst (v := 5) hx hb dX0_copy_61 (by decide) ?_
            obtain ⟨r23, σ23, h23c, hF⟩ := dx_b2_some hF
            refine cl_ci (va_runV (As := [.int (5 : Int32)]) S (cm_X0_found l D dA _ A a0 o0 (5 : Int32) σ0 _ _ e0 h23c) (cwV 1 hts (lw_V q414 q416 qs3 q77 q417) rfl rfl rfl ⟨rfl, cd_X0_found⟩ ⟨Nat.le_of_ble_eq_true rfl, Nat.le_of_ble_eq_true rfl⟩) (cl_preV V [.int (5 : Int32)] e0 k3 rfl (by decide)) rfl rfl hl.1 rfl (lv_room (Nat.le_of_ble_eq_true rfl)) dX0_copy_62 ⟨Nat.le_of_ble_eq_true rfl, Nat.le_of_ble_eq_true rfl⟩) V (fun ad _ _ hag hle V => ?_)
            replace e0 := e0.mv hag hle
            refine W.widen (k := 3) (n := 410) (by first | omega | (dsimp only; omega)) (by first | omega | (dsimp only; omega)) ?_
            obtain ⟨hF1, hF2⟩ := dx_r2 hF
            subst hF1
            subst hF2
            exact vx_ret (cl_ri S V hr hlocks rfl dX0_copy_65)
    · replace hF := dx_ib_f (dx_bI_0 hc) hF
      refine lv_ldc hx hb hown (hts _ q406) dX0_copy_14 ?_
      refine W.widen (k := 3) (n := 410) (by first | omega | (dsimp only; omega)) (by first | omega | (dsimp only; omega)) ?_
      obtain ⟨hF1, hF2⟩ := dx_r2 hF
      subst hF1
      subst hF2
      exact vx_ret (cl_ri S V hr hlocks rfl dX0_copy_16)
