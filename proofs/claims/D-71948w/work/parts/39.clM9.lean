/-! the class side read back and walked (printed by gen/clmain.py) -/
set_option maxHeartbeats 4000000 in
set_option maxRecDepth 100000 in
theorem cl_dr_number {p : Program} {l : Launch} {e : Env} {R : Room} {s : State} {m : MethodId} {args : Array Value} {below : List Frame} {meth : Method} {c : Code} {H : Heap} {locs : List Loc} {cells slots : Nat} {cc : ByteArray} {nL pc : Nat} {ls : Array Slot} {rest : List Value} {D : va_G} {dA : Nat → ClassId} {B : (Nat → Nat) × Nat} {ad : Nat → Nat} {A : Nat → Prop} {H0 : Heap} {σ0 : cl_S} {own : String} {index : Nat} (S : CallFix p m c cc nL s args lw_all own) (V : cl_V D dA B ad A H0 σ0 s H locs) {a0 o0 : Nat} (e0 : cl_at ad σ0 a0 o0) (hlink : Cond.methodLink own index ⟨"DatedContacts$Person", "number", "()I"⟩ ∈ lw_all) {r : Int32} (hF : cl_dP_number o0 σ0 = some r) (hR : 1 ≤ R.frames ∧ 20 ≤ R.locals) (hsz : ls.size = nL) (hW : (rest.map fun v => v.category).sum ≤ 8) (hdg : decode cc pc = .ok (.invokevirtual index, 3)) (hf : cells + 0 ≤ R.cells ∧ slots + 0 ≤ R.slots) : va_Run p l e R s m args below meth c H locs cells slots 0 0 (F0 m pc ls ([].reverse ++ .ref a0 :: rest)) rest (cl_Qi D dA ad A σ0 σ0 r ((.ref a0 :: [] : List Value)).toArray) A := by
  unfold cl_dP_number at hF
  by_cases hk : cl_k σ0 o0 = 9
  · replace hF := (if_pos hk).symm.trans hF
    exact va_Run.wd (va_runU (As := []) S (cm_X10_number l D dA _ A a0 o0 σ0 _ e0 hF) (va_cwU (owner := "DatedContacts$Person") 0 S.2.2.2.2 (lw_U hlink q1472 q1475 q1471 q105 q1478) rfl rfl rfl rfl (by decide +kernel) ⟨Nat.le_trans (Nat.le_of_ble_eq_true rfl) hR.1, Nat.le_trans (Nat.le_of_ble_eq_true rfl) hR.2⟩) (cl_preV V [] e0 hk rfl (by decide)) rfl rfl hsz rfl (lv_room hW) hdg ⟨Nat.le_trans (Nat.add_le_add_left (Nat.le_of_ble_eq_true rfl) _) hf.1, Nat.le_trans (Nat.add_le_add_left (Nat.le_of_ble_eq_true rfl) _) hf.2⟩) (Nat.le_of_ble_eq_true rfl) (Nat.le_of_ble_eq_true rfl)
  replace hF := (if_neg hk).symm.trans hF
  clear hk
  by_cases hk : cl_k σ0 o0 = 10
  · replace hF := (if_pos hk).symm.trans hF
    exact va_Run.wd (va_runU (As := []) S (cm_X10_number l D dA _ A a0 o0 σ0 _ e0 hF) (va_cwU (owner := "DatedContacts$Person") 0 S.2.2.2.2 (lw_U hlink q1472 q1474 q1471 q105 q1478) rfl rfl rfl rfl (by decide +kernel) ⟨Nat.le_trans (Nat.le_of_ble_eq_true rfl) hR.1, Nat.le_trans (Nat.le_of_ble_eq_true rfl) hR.2⟩) (cl_preV V [] e0 hk rfl (by decide)) rfl rfl hsz rfl (lv_room hW) hdg ⟨Nat.le_trans (Nat.add_le_add_left (Nat.le_of_ble_eq_true rfl) _) hf.1, Nat.le_trans (Nat.add_le_add_left (Nat.le_of_ble_eq_true rfl) _) hf.2⟩) (Nat.le_of_ble_eq_true rfl) (Nat.le_of_ble_eq_true rfl)
  replace hF := (if_neg hk).symm.trans hF
  clear hk
  by_cases hk : cl_k σ0 o0 = 11
  · replace hF := (if_pos hk).symm.trans hF
    exact va_Run.wd (va_runU (As := []) S (cm_X10_number l D dA _ A a0 o0 σ0 _ e0 hF) (va_cwU (owner := "DatedContacts$Person") 0 S.2.2.2.2 (lw_U hlink q1472 q1473 q1471 q105 q1478) rfl rfl rfl rfl (by decide +kernel) ⟨Nat.le_trans (Nat.le_of_ble_eq_true rfl) hR.1, Nat.le_trans (Nat.le_of_ble_eq_true rfl) hR.2⟩) (cl_preV V [] e0 hk rfl (by decide)) rfl rfl hsz rfl (lv_room hW) hdg ⟨Nat.le_trans (Nat.add_le_add_left (Nat.le_of_ble_eq_true rfl) _) hf.1, Nat.le_trans (Nat.add_le_add_left (Nat.le_of_ble_eq_true rfl) _) hf.2⟩) (Nat.le_of_ble_eq_true rfl) (Nat.le_of_ble_eq_true rfl)
  replace hF := (if_neg hk).symm.trans hF
  clear hk
  by_cases hk : cl_k σ0 o0 = 12
  · replace hF := (if_pos hk).symm.trans hF
    exact va_Run.wd (va_runU (As := []) S (cm_X10_number l D dA _ A a0 o0 σ0 _ e0 hF) (va_cwU (owner := "DatedContacts$Person") 0 S.2.2.2.2 (lw_U hlink q1472 q1477 q1471 q105 q1478) rfl rfl rfl rfl (by decide +kernel) ⟨Nat.le_trans (Nat.le_of_ble_eq_true rfl) hR.1, Nat.le_trans (Nat.le_of_ble_eq_true rfl) hR.2⟩) (cl_preV V [] e0 hk rfl (by decide)) rfl rfl hsz rfl (lv_room hW) hdg ⟨Nat.le_trans (Nat.add_le_add_left (Nat.le_of_ble_eq_true rfl) _) hf.1, Nat.le_trans (Nat.add_le_add_left (Nat.le_of_ble_eq_true rfl) _) hf.2⟩) (Nat.le_of_ble_eq_true rfl) (Nat.le_of_ble_eq_true rfl)
  replace hF := (if_neg hk).symm.trans hF
  clear hk
  by_cases hk : cl_k σ0 o0 = 13
  · replace hF := (if_pos hk).symm.trans hF
    exact va_Run.wd (va_runU (As := []) S (cm_X10_number l D dA _ A a0 o0 σ0 _ e0 hF) (va_cwU (owner := "DatedContacts$Person") 0 S.2.2.2.2 (lw_U hlink q1472 q1476 q1471 q105 q1478) rfl rfl rfl rfl (by decide +kernel) ⟨Nat.le_trans (Nat.le_of_ble_eq_true rfl) hR.1, Nat.le_trans (Nat.le_of_ble_eq_true rfl) hR.2⟩) (cl_preV V [] e0 hk rfl (by decide)) rfl rfl hsz rfl (lv_room hW) hdg ⟨Nat.le_trans (Nat.add_le_add_left (Nat.le_of_ble_eq_true rfl) _) hf.1, Nat.le_trans (Nat.add_le_add_left (Nat.le_of_ble_eq_true rfl) _) hf.2⟩) (Nat.le_of_ble_eq_true rfl) (Nat.le_of_ble_eq_true rfl)
  replace hF := (if_neg hk).symm.trans hF
  clear hk
  cases hF
theorem cd_X0_as : yX0_as.cls ≠ "java/lang/invoke/MethodHandle" ∧ yX0_as.cls ≠ "java/lang/invoke/VarHandle" ∧ (parseMethodDescriptor yX0_as.desc).map (fun d => d.parameters.length) = some 2 := by decide +kernel
set_option maxHeartbeats 4000000 in
set_option maxRecDepth 100000 in
theorem cm_X0_as (l : Launch) (hlt : l.stackTraces = false) (D : va_G) (dA : Nat → ClassId) (ad0 : Nat → Nat) (A : Nat → Prop) (a0 : Nat) (o0 : Nat) (p0 : Int32) (p1 : Int32) (σ0 : cl_S) (r : Int32) (σ' : cl_S) (e0 : cl_at ad0 σ0 a0 o0) (hF : cl_X0_as o0 σ0 p0 p1 = some (r, σ')) : cx_Hi l yX0_as cX0_as 4 .int [(23, 43, 44, 380)] ({ frames := 10, cells := 3, slots := 910, locals := 10269 }) D dA ad0 A [.ref a0, .int p0, .int p1] σ0 r σ' := by
  refine cx_inH RX0 rfl (by decide) (Nat.le_of_ble_eq_true rfl) ?_
  intro p e s m below meth c ls S hr hlocks hini htab hv hl
  have hx := S.1
  have hb := S.2.1
  have hown := S.2.2.2.1
  have hts := S.2.2.2.2
  obtain ⟨hN, hK, hP, hD, hA, hZ⟩ := hv
  have V : cl_V D dA (ad0, cl_n σ0) ad0 A s.heap σ0 s s.heap [] := ⟨hN, hK, hP, hD, va_S.rf, hA, hZ, fun _ _ => rfl, Nat.le_refl _⟩
  obtain ⟨ad, V, e0⟩ : ∃ ad, cl_V D dA (ad0, cl_n σ0) ad A s.heap σ0 s s.heap [] ∧ cl_at ad σ0 a0 o0 := ⟨ad0, V, e0⟩
  replace hl : lv_has ls 4 [(0, .ref a0), (1, .int p0), (2, .int p1)] := hl
  unfold cl_X0_as at hF
  refine lv_aload_n hx hb dX0_as_0 rfl (lv_at hl 0 rfl) ?_
  refine lv_iload_n hx hb dX0_as_1 rfl (lv_at hl 1 rfl) ?_
  obtain ⟨hg, hF⟩ := dx_gd_some hF
  have k2 := of_decide_eq_true hg
  obtain ⟨r1, h1c, hF⟩ := dx_b1_some hF
  refine cl_ci (va_runV (As := [.int p0]) S (cm_X0_isPerson l D dA _ A a0 o0 p0 σ0 _ e0 h1c) (cwV 1 hts (lw_V q1059 q1061 qs17 q77 q1062) rfl rfl rfl ⟨rfl, cd_X0_isPerson⟩ ⟨Nat.le_of_ble_eq_true rfl, Nat.le_of_ble_eq_true rfl⟩) (cl_preV V [.int p0] e0 k2 rfl (by decide)) rfl rfl hl.1 rfl (lv_room (Nat.le_of_ble_eq_true rfl)) dX0_as_2 ⟨Nat.le_of_ble_eq_true rfl, Nat.le_of_ble_eq_true rfl⟩) V (fun ad _ _ hag hle V => ?_)
  replace e0 := e0.mv hag hle
  refine lv_if_eq (tgt := 20) hx hb dX0_as_5 (by decide) (fun hc => ?_) (fun hc => ?_)
  · replace hF := dx_ib_f (dx_bI_0 hc) hF
    refine lv_ldc hx hb hown (hts _ q406) dX0_as_20 ?_
    refine W.widen (k := 3) (n := 910) (by first | omega | (dsimp only; omega)) (by first | omega | (dsimp only; omega)) ?_
    obtain ⟨hF1, hF2⟩ := dx_r2 hF
    subst hF1
    subst hF2
    exact vx_ret (cl_ri S V hr hlocks rfl dX0_as_22)
  · replace hF := dx_ib_t (dx_bI_n hc) hF
    refine lv_iload_n hx hb dX0_as_8 rfl (lv_at hl 2 rfl) ?_
    refine lv_i2l hx hb dX0_as_9 rfl ?_
    refine lv_lconst (v := 0) hx hb dX0_as_10 (by decide) ?_
    refine lv_ldc2 hx hb hown (hts _ q1102) dX0_as_11 ?_
    obtain ⟨r3, h3c, hF⟩ := dx_b1_some hF
    refine dx_cPi S [.long p1.toInt64, .long (0 : Int64), .long (5 : Int64)] (cm_X0_isIn l p1.toInt64 (0 : Int64) (5 : Int64) _ h3c) (va_cwS 3 hts (lw_S q402 q403 q77 q404) rfl rfl rfl cd_X0_isIn ⟨Nat.le_of_ble_eq_true rfl, Nat.le_of_ble_eq_true rfl⟩) rfl rfl hl.1 (Nat.le_of_ble_eq_true rfl) dX0_as_14 ⟨Nat.le_of_ble_eq_true rfl, Nat.le_of_ble_eq_true rfl⟩ ?_
    refine lv_if_ne (tgt := 23) hx hb dX0_as_17 (by decide) (fun hc => ?_) (fun hc => ?_)
    · replace hF := dx_ib_t (dx_bI_n hc) hF
      refine lv_aload_n hx hb dX0_as_23 rfl (lv_at hl 0 rfl) ?_
      refine lv_aload_n hx hb dX0_as_24 rfl (lv_at hl 0 rfl) ?_
      obtain ⟨hg, hF⟩ := dx_gd_some hF
      refine cl_gr S V e0 k2 rfl (by decide) in_X0 4 (by decide) rfl q272 rfl dX0_as_25 (of_decide_eq_true hg) (fun bb4 ee4 => ?_)
      obtain ⟨hg, hF⟩ := dx_gd_some hF
      have k5 := of_decide_eq_true hg
      obtain ⟨hg, hF⟩ := dx_gd_some hF
      refine cl_gr S V ee4 k5 rfl (by decide) in_X2 4 (by decide) rfl q166 rfl dX0_as_28 (of_decide_eq_true hg) (fun bb6 ee6 => ?_)
      refine lv_iload_n hx hb dX0_as_31 rfl (lv_at hl 1 rfl) ?_
      obtain ⟨hg, hF⟩ := dx_gd_some hF
      have k7 := of_decide_eq_true hg
      obtain ⟨hi8, hF⟩ := dx_gd_some hF
      obtain ⟨hg, hF⟩ := dx_gd_some hF
      refine cl_lr 4 25 S V ee6 k7 (by decide) rfl (dx_inb_in hi8) dX0_as_32 (of_decide_eq_true hg) (fun bb9 ee9 => ?_)
      refine lv_iload_n hx hb dX0_as_33 rfl (lv_at hl 2 rfl) ?_
      obtain ⟨z10, σ10, h10c, hF⟩ := dx_bx_some hF
      refine cx_cr (vx_runS (As := [.ref bb9, .int p1]) S (cm_X0_taken l hlt D dA _ A bb9 (cl_r σ0 (cl_r σ0 (cl_r σ0 o0 4) 4) p0.toNatClampNeg) p1 σ0 _ _ ee9 h10c) (va_cwS 2 hts (lw_S q1466 q1467 q77 q1468) rfl rfl rfl cd_X0_taken ⟨Nat.le_of_ble_eq_true rfl, Nat.le_of_ble_eq_true rfl⟩) (cl_preS V [.ref bb9, .int p1]) rfl rfl hl.1 rfl (lv_room (Nat.le_of_ble_eq_true rfl)) dX0_as_34 ⟨Nat.le_of_ble_eq_true rfl, Nat.le_of_ble_eq_true rfl⟩) V (dx_xs_nz hF) (fun x10 ce q9 ad _ _ hz hag hle hq9 V hce hcv hcl => ?_) (fun r10 bb10 ad _ _ hz hag hle ee10 V => ?_)
      · subst hz
        replace hF := dx_xs_r hF
        replace e0 := e0.mv hag hle
        by_cases hc : x10 = 3
        · replace hF := (if_pos hc).symm.trans hF
          subst hc
          refine vx_catch (E := "java/lang/ClassCastException") (name := "java/lang/ClassCastException") hown [] ⟨23, 43, 44, 380⟩ [] (by rw [htab]; rfl) (fun z h => nomatch h) rfl (by decide) (hts _ q1452) (va_Nw.use rfl (V.1.1 _ cn_q1464)) hce hcv hcl ?_
          refine lv_astore_n (lv' := [(3, .ref q9), (0, .ref a0), (1, .int p0), (2, .int p1)]) hx hb dX0_as_44 rfl hl (by decide) rfl (fun ls hl => ?_)
          refine lv_aload_n hx hb dX0_as_45 rfl (lv_at hl 1 rfl) ?_
          refine lv_iconst (v := 3) hx hb dX0_as_46 (by decide) ?_
          obtain ⟨hg, hF⟩ := dx_gd_some hF
          have k12 := of_decide_eq_true hg
          obtain ⟨r11, σ11, h11c, hF⟩ := dx_b2_some hF
          refine cl_ci (va_runV (As := [.int (3 : Int32)]) S (cm_X0_found l D dA _ A a0 o0 (3 : Int32) σ10 _ _ e0 h11c) (cwV 1 hts (lw_V q414 q416 qs3 q77 q417) rfl rfl rfl ⟨rfl, cd_X0_found⟩ ⟨Nat.le_of_ble_eq_true rfl, Nat.le_of_ble_eq_true rfl⟩) (cl_preV V [.int (3 : Int32)] e0 k12 rfl (by decide)) rfl rfl hl.1 rfl (lv_room (Nat.le_of_ble_eq_true rfl)) dX0_as_47 ⟨Nat.le_of_ble_eq_true rfl, Nat.le_of_ble_eq_true rfl⟩) V (fun ad _ _ hag hle V => ?_)
          replace e0 := e0.mv hag hle
          refine W.widen (k := 3) (n := 910) (by first | omega | (dsimp only; omega)) (by first | omega | (dsimp only; omega)) ?_
          obtain ⟨hF1, hF2⟩ := dx_r2 hF
          subst hF1
          subst hF2
          exact vx_ret (cl_ri S V hr hlocks rfl dX0_as_50)
        replace hF := (if_neg hc).symm.trans hF
        clear hc
        cases hF
      · subst hz
        replace hF := dx_xs_l hF
        replace hF := (dx_gd_some hF).2
        replace e0 := e0.mv hag hle
        obtain ⟨r13, h13c, hF⟩ := dx_b1_some hF
        refine cl_ci (cl_dr_number S V ee10 q1470 h13c ⟨Nat.le_of_ble_eq_true rfl, Nat.le_of_ble_eq_true rfl⟩ hl.1 (Nat.le_of_ble_eq_true rfl) dX0_as_37 ⟨Nat.le_of_ble_eq_true rfl, Nat.le_of_ble_eq_true rfl⟩) V (fun ad _ _ hag hle V => ?_)
        replace e0 := e0.mv hag hle
        obtain ⟨hg, hF⟩ := dx_gd_some hF
        have k15 := of_decide_eq_true hg
        obtain ⟨r14, σ14, h14c, hF⟩ := dx_b2_some hF
        refine cl_ci (va_runV (As := [.int r13]) S (cm_X0_well l D dA _ A a0 o0 r13 σ10 _ _ e0 h14c) (cwV 1 hts (lw_V q410 q412 qs2 q77 q413) rfl rfl rfl ⟨rfl, cd_X0_well⟩ ⟨Nat.le_of_ble_eq_true rfl, Nat.le_of_ble_eq_true rfl⟩) (cl_preV V [.int r13] e0 k15 rfl (by decide)) rfl rfl hl.1 rfl (lv_room (Nat.le_of_ble_eq_true rfl)) dX0_as_40 ⟨Nat.le_of_ble_eq_true rfl, Nat.le_of_ble_eq_true rfl⟩) V (fun ad _ _ hag hle V => ?_)
        replace e0 := e0.mv hag hle
        refine W.widen (k := 3) (n := 910) (by first | omega | (dsimp only; omega)) (by first | omega | (dsimp only; omega)) ?_
        obtain ⟨hF1, hF2⟩ := dx_r2 hF
        subst hF1
        subst hF2
        exact vx_ret (cl_ri S V hr hlocks rfl dX0_as_43)
    · replace hF := dx_ib_f (dx_bI_0 hc) hF
      refine lv_ldc hx hb hown (hts _ q406) dX0_as_20 ?_
      refine W.widen (k := 3) (n := 910) (by first | omega | (dsimp only; omega)) (by first | omega | (dsimp only; omega)) ?_
      obtain ⟨hF1, hF2⟩ := dx_r2 hF
      subst hF1
      subst hF2
      exact vx_ret (cl_ri S V hr hlocks rfl dX0_as_22)
theorem cd_X9_size : yX9_size.cls ≠ "java/lang/invoke/MethodHandle" ∧ yX9_size.cls ≠ "java/lang/invoke/VarHandle" ∧ (parseMethodDescriptor yX9_size.desc).map (fun d => d.parameters.length) = some 2 := by decide +kernel
set_option maxHeartbeats 4000000 in
set_option maxRecDepth 100000 in
theorem cm_X9_size (l : Launch) (D : va_G) (dA : Nat → ClassId) (ad0 : Nat → Nat) (A : Nat → Prop) (a0 : Nat) (a1 : Nat) (a2 : Nat) (o0 : Nat) (o1 : Nat) (o2 : Nat)  (σ0 : cl_S) (r : Int32) (σ' : cl_S) (e0 : cl_at ad0 σ0 a0 o0) (e1 : cl_at ad0 σ0 a1 o1) (e2 : cl_at ad0 σ0 a2 o2) (hF : cl_X9_size o0 o1 o2 σ0 = some (r, σ')) : cl_Ci l yX9_size cX9_size 3 .int ({ frames := 1, cells := 0, slots := 0, locals := 21 }) D dA ad0 A [.ref a0, .ref a1, .ref a2] σ0 r σ' := by
  refine cl_in RX9 rfl (by decide) (Nat.le_of_ble_eq_true rfl) ?_
  intro p e s m below meth c ls S hr hlocks hini hv hl
  have hx := S.1
  have hb := S.2.1
  have hown := S.2.2.2.1
  have hts := S.2.2.2.2
  obtain ⟨hN, hK, hP, hD, hA, hZ⟩ := hv
  have V : cl_V D dA (ad0, cl_n σ0) ad0 A s.heap σ0 s s.heap [] := ⟨hN, hK, hP, hD, va_S.rf, hA, hZ, fun _ _ => rfl, Nat.le_refl _⟩
  obtain ⟨ad, V, e0, e1, e2⟩ : ∃ ad, cl_V D dA (ad0, cl_n σ0) ad A s.heap σ0 s s.heap [] ∧ cl_at ad σ0 a0 o0 ∧ cl_at ad σ0 a1 o1 ∧ cl_at ad σ0 a2 o2 := ⟨ad0, V, e0, e1, e2⟩
  replace hl : lv_has ls 3 [(0, .ref a0), (1, .ref a1), (2, .ref a2)] := hl
  unfold cl_X9_size at hF
  refine lv_aload_n hx hb dX9_size_0 rfl (lv_at hl 1 rfl) ?_
  refine lv_bipush (v := 10) hx hb dX9_size_1 (by decide) ?_
  obtain ⟨hg, hF⟩ := dx_gd_some hF
  have k2 := of_decide_eq_true hg
  obtain ⟨σ1, h1c, hF⟩ := dx_b1_some hF
  refine cl_cv (va_runV (As := [.int (10 : Int32)]) S (cm_X5_begins l D dA _ A a1 o1 (10 : Int32) σ0 _ e1 h1c) (cwV 1 hts (lw_V q1508 q1503 q1504 q82 q1505) rfl rfl rfl ⟨rfl, cd_X5_begins⟩ ⟨Nat.le_of_ble_eq_true rfl, Nat.le_of_ble_eq_true rfl⟩) (cl_preV V [.int (10 : Int32)] e1 k2 rfl (by decide)) rfl rfl hl.1 rfl (lv_room (Nat.le_of_ble_eq_true rfl)) dX9_size_3 ⟨Nat.le_of_ble_eq_true rfl, Nat.le_of_ble_eq_true rfl⟩) V (fun ad _ _ hag hle V => ?_)
  replace e0 := e0.mv hag hle
  replace e1 := e1.mv hag hle
  replace e2 := e2.mv hag hle
  refine lv_aload_n hx hb dX9_size_6 rfl (lv_at hl 2 rfl) ?_
  obtain ⟨hg, hF⟩ := dx_gd_some hF
  have k4 := of_decide_eq_true hg
  obtain ⟨r3, h3c, hF⟩ := dx_b1_some hF
  refine cl_cFi (va_runF (V.2.1.1 15 _ rfl).2 (As := []) S (cm_X18_contacts l D dA _ A a2 o2  σ1 _ e2 h3c) (va_cwF 0 hts (lw_F q1510 q1514 q1516 q116 q1518) rfl rfl rfl (V.1.2.1 _ cf_Has_contacts) (by decide +kernel) ⟨Nat.le_of_ble_eq_true rfl, Nat.le_of_ble_eq_true rfl⟩) (cl_preV V [] e2 k4 rfl (by decide)) rfl rfl hl.1 rfl (lv_room (Nat.le_of_ble_eq_true rfl)) dX9_size_7 ⟨Nat.le_of_ble_eq_true rfl, Nat.le_of_ble_eq_true rfl⟩) V (fun ad _ _ hag hle V => ?_)
  replace e0 := e0.mv hag hle
  replace e1 := e1.mv hag hle
  replace e2 := e2.mv hag hle
  obtain ⟨hF1, hF2⟩ := dx_r2 hF
  subst hF1
  subst hF2
  exact cl_ri S V hr hlocks rfl dX9_size_12
set_option maxHeartbeats 4000000 in
set_option maxRecDepth 100000 in
theorem cl_dri_number {p : Program} {l : Launch} {e : Env} {R : Room} {s : State} {m : MethodId} {args : Array Value} {below : List Frame} {meth : Method} {c : Code} {H : Heap} {locs : List Loc} {cells slots : Nat} {cc : ByteArray} {nL pc count : Nat} {ls : Array Slot} {rest : List Value} {D : va_G} {dA : Nat → ClassId} {B : (Nat → Nat) × Nat} {ad : Nat → Nat} {A : Nat → Prop} {H0 : Heap} {σ0 : cl_S} {own : String} {index : Nat} (S : CallFix p m c cc nL s args lw_all own) (V : cl_V D dA B ad A H0 σ0 s H locs) {a0 o0 : Nat} (e0 : cl_at ad σ0 a0 o0) (hk : 9 ≤ cl_k σ0 o0 ∧ cl_k σ0 o0 ≤ 13) (hlink : Cond.methodLink own index ⟨"DatedContacts$Marked", "number", "()I"⟩ ∈ lw_all) {r : Int32} (hF : cl_X10_number o0 σ0 = some r) (hR : 1 ≤ R.frames ∧ 20 ≤ R.locals) (hsz : ls.size = nL) (hW : (rest.map fun v => v.category).sum ≤ 8) (hdg : decode cc pc = .ok (.invokeinterface index count, 5)) (hf : cells + 0 ≤ R.cells ∧ slots + 0 ≤ R.slots) : va_Run5 p l e R s m args below meth c H locs cells slots 0 0 (F0 m pc ls (.ref a0 :: rest)) rest (cl_Qi D dA ad A σ0 σ0 r ([.ref a0] : List Value).toArray) A := by
  have h : cl_k σ0 o0 = 9 ∨ cl_k σ0 o0 = 10 ∨ cl_k σ0 o0 = 11 ∨ cl_k σ0 o0 = 12 ∨ cl_k σ0 o0 = 13 := by omega
  rcases h with h | h | h | h | h
  · exact va_runF (V.2.1.1 9 _ rfl).2 (As := []) S (cm_X10_number l D dA _ A a0 o0 σ0 _ e0 hF) (va_cwF 0 S.2.2.2.2 (lw_F hlink q1549 q1471 q105 q1478) rfl rfl rfl (V.1.2.1 _ cf_Open_number) (by decide +kernel) ⟨hR.1, hR.2⟩) (cl_preV V [] e0 h rfl (by decide)) rfl rfl hsz rfl (lv_room hW) hdg hf
  · exact va_runF (V.2.1.1 10 _ rfl).2 (As := []) S (cm_X10_number l D dA _ A a0 o0 σ0 _ e0 hF) (va_cwF 0 S.2.2.2.2 (lw_F hlink q1546 q1471 q105 q1478) rfl rfl rfl (V.1.2.1 _ cf_Late_number) (by decide +kernel) ⟨hR.1, hR.2⟩) (cl_preV V [] e0 h rfl (by decide)) rfl rfl hsz rfl (lv_room hW) hdg hf
  · exact va_runF (V.2.1.1 11 _ rfl).2 (As := []) S (cm_X10_number l D dA _ A a0 o0 σ0 _ e0 hF) (va_cwF 0 S.2.2.2.2 (lw_F hlink q1542 q1471 q105 q1478) rfl rfl rfl (V.1.2.1 _ cf_Brief_number) (by decide +kernel) ⟨hR.1, hR.2⟩) (cl_preV V [] e0 h rfl (by decide)) rfl rfl hsz rfl (lv_room hW) hdg hf
  · exact va_runF (V.2.1.1 12 _ rfl).2 (As := []) S (cm_X10_number l D dA _ A a0 o0 σ0 _ e0 hF) (va_cwF 0 S.2.2.2.2 (lw_F hlink q1555 q1471 q105 q1478) rfl rfl rfl (V.1.2.1 _ cf_Ward_number) (by decide +kernel) ⟨hR.1, hR.2⟩) (cl_preV V [] e0 h rfl (by decide)) rfl rfl hsz rfl (lv_room hW) hdg hf
  · exact va_runF (V.2.1.1 13 _ rfl).2 (As := []) S (cm_X10_number l D dA _ A a0 o0 σ0 _ e0 hF) (va_cwF 0 S.2.2.2.2 (lw_F hlink q1552 q1471 q105 q1478) rfl rfl rfl (V.1.2.1 _ cf_Safe_number) (by decide +kernel) ⟨hR.1, hR.2⟩) (cl_preV V [] e0 h rfl (by decide)) rfl rfl hsz rfl (lv_room hW) hdg hf
theorem cd_X9_mark : yX9_mark.cls ≠ "java/lang/invoke/MethodHandle" ∧ yX9_mark.cls ≠ "java/lang/invoke/VarHandle" ∧ (parseMethodDescriptor yX9_mark.desc).map (fun d => d.parameters.length) = some 2 := by decide +kernel
set_option maxHeartbeats 4000000 in
set_option maxRecDepth 100000 in
theorem cm_X9_mark (l : Launch) (D : va_G) (dA : Nat → ClassId) (ad0 : Nat → Nat) (A : Nat → Prop) (a0 : Nat) (a1 : Nat) (a2 : Nat) (o0 : Nat) (o1 : Nat) (o2 : Nat)  (σ0 : cl_S) (r : Int32) (σ' : cl_S) (e0 : cl_at ad0 σ0 a0 o0) (e1 : cl_at ad0 σ0 a1 o1) (e2 : cl_at ad0 σ0 a2 o2) (hF : cl_X9_mark o0 o1 o2 σ0 = some (r, σ')) : cl_Ci l yX9_mark cX9_mark 3 .int ({ frames := 1, cells := 0, slots := 0, locals := 21 }) D dA ad0 A [.ref a0, .ref a1, .ref a2] σ0 r σ' := by
  refine cl_in RX9 rfl (by decide) (Nat.le_of_ble_eq_true rfl) ?_
  intro p e s m below meth c ls S hr hlocks hini hv hl
  have hx := S.1
  have hb := S.2.1
  have hown := S.2.2.2.1
  have hts := S.2.2.2.2
  obtain ⟨hN, hK, hP, hD, hA, hZ⟩ := hv
  have V : cl_V D dA (ad0, cl_n σ0) ad0 A s.heap σ0 s s.heap [] := ⟨hN, hK, hP, hD, va_S.rf, hA, hZ, fun _ _ => rfl, Nat.le_refl _⟩
  obtain ⟨ad, V, e0, e1, e2⟩ : ∃ ad, cl_V D dA (ad0, cl_n σ0) ad A s.heap σ0 s s.heap [] ∧ cl_at ad σ0 a0 o0 ∧ cl_at ad σ0 a1 o1 ∧ cl_at ad σ0 a2 o2 := ⟨ad0, V, e0, e1, e2⟩
  replace hl : lv_has ls 3 [(0, .ref a0), (1, .ref a1), (2, .ref a2)] := hl
  unfold cl_X9_mark at hF
  refine lv_aload_n hx hb dX9_mark_0 rfl (lv_at hl 1 rfl) ?_
  refine lv_bipush (v := 20) hx hb dX9_mark_1 (by decide) ?_
  obtain ⟨hg, hF⟩ := dx_gd_some hF
  have k2 := of_decide_eq_true hg
  obtain ⟨σ1, h1c, hF⟩ := dx_b1_some hF
  refine cl_cv (va_runV (As := [.int (20 : Int32)]) S (cm_X5_begins l D dA _ A a1 o1 (20 : Int32) σ0 _ e1 h1c) (cwV 1 hts (lw_V q1508 q1503 q1504 q82 q1505) rfl rfl rfl ⟨rfl, cd_X5_begins⟩ ⟨Nat.le_of_ble_eq_true rfl, Nat.le_of_ble_eq_true rfl⟩) (cl_preV V [.int (20 : Int32)] e1 k2 rfl (by decide)) rfl rfl hl.1 rfl (lv_room (Nat.le_of_ble_eq_true rfl)) dX9_mark_3 ⟨Nat.le_of_ble_eq_true rfl, Nat.le_of_ble_eq_true rfl⟩) V (fun ad _ _ hag hle V => ?_)
  replace e0 := e0.mv hag hle
  replace e1 := e1.mv hag hle
  replace e2 := e2.mv hag hle
  refine lv_aload_n hx hb dX9_mark_6 rfl (lv_at hl 0 rfl) ?_
  obtain ⟨hg, hF⟩ := dx_gd_some hF
  have k4 := of_decide_eq_true hg
  obtain ⟨r3, h3c, hF⟩ := dx_b1_some hF
  refine cl_cFi (cl_dri_number S V e0 k4 q1538 h3c ⟨Nat.le_of_ble_eq_true rfl, Nat.le_of_ble_eq_true rfl⟩ hl.1 (Nat.le_of_ble_eq_true rfl) dX9_mark_7 ⟨Nat.le_of_ble_eq_true rfl, Nat.le_of_ble_eq_true rfl⟩) V (fun ad _ _ hag hle V => ?_)
  replace e0 := e0.mv hag hle
  replace e1 := e1.mv hag hle
  replace e2 := e2.mv hag hle
  obtain ⟨hF1, hF2⟩ := dx_r2 hF
  subst hF1
  subst hF2
  exact cl_ri S V hr hlocks rfl dX9_mark_12
theorem cd_X11_mark : yX11_mark.cls ≠ "java/lang/invoke/MethodHandle" ∧ yX11_mark.cls ≠ "java/lang/invoke/VarHandle" ∧ (parseMethodDescriptor yX11_mark.desc).map (fun d => d.parameters.length) = some 2 := by decide +kernel
set_option maxHeartbeats 4000000 in
set_option maxRecDepth 100000 in
theorem cm_X11_mark (l : Launch) (D : va_G) (dA : Nat → ClassId) (ad0 : Nat → Nat) (A : Nat → Prop) (a0 : Nat) (a1 : Nat) (a2 : Nat) (o0 : Nat) (o1 : Nat) (o2 : Nat)  (σ0 : cl_S) (r : Int32) (σ' : cl_S) (e0 : cl_at ad0 σ0 a0 o0) (e1 : cl_at ad0 σ0 a1 o1) (e2 : cl_at ad0 σ0 a2 o2) (hF : cl_X11_mark o0 o1 o2 σ0 = some (r, σ')) : cl_Ci l yX11_mark cX11_mark 3 .int ({ frames := 2, cells := 0, slots := 0, locals := 43 }) D dA ad0 A [.ref a0, .ref a1, .ref a2] σ0 r σ' := by
  refine cl_in RX11 rfl (by decide) (Nat.le_of_ble_eq_true rfl) ?_
  intro p e s m below meth c ls S hr hlocks hini hv hl
  have hx := S.1
  have hb := S.2.1
  have hown := S.2.2.2.1
  have hts := S.2.2.2.2
  obtain ⟨hN, hK, hP, hD, hA, hZ⟩ := hv
  have V : cl_V D dA (ad0, cl_n σ0) ad0 A s.heap σ0 s s.heap [] := ⟨hN, hK, hP, hD, va_S.rf, hA, hZ, fun _ _ => rfl, Nat.le_refl _⟩
  obtain ⟨ad, V, e0, e1, e2⟩ : ∃ ad, cl_V D dA (ad0, cl_n σ0) ad A s.heap σ0 s s.heap [] ∧ cl_at ad σ0 a0 o0 ∧ cl_at ad σ0 a1 o1 ∧ cl_at ad σ0 a2 o2 := ⟨ad0, V, e0, e1, e2⟩
  replace hl : lv_has ls 3 [(0, .ref a0), (1, .ref a1), (2, .ref a2)] := hl
  unfold cl_X11_mark at hF
  refine lv_aload_n hx hb dX11_mark_0 rfl (lv_at hl 1 rfl) ?_
  refine lv_bipush (v := 21) hx hb dX11_mark_1 (by decide) ?_
  obtain ⟨hg, hF⟩ := dx_gd_some hF
  have k2 := of_decide_eq_true hg
  obtain ⟨σ1, h1c, hF⟩ := dx_b1_some hF
  refine cl_cv (va_runV (As := [.int (21 : Int32)]) S (cm_X5_begins l D dA _ A a1 o1 (21 : Int32) σ0 _ e1 h1c) (cwV 1 hts (lw_V q1502 q1503 q1504 q82 q1505) rfl rfl rfl ⟨rfl, cd_X5_begins⟩ ⟨Nat.le_of_ble_eq_true rfl, Nat.le_of_ble_eq_true rfl⟩) (cl_preV V [.int (21 : Int32)] e1 k2 rfl (by decide)) rfl rfl hl.1 rfl (lv_room (Nat.le_of_ble_eq_true rfl)) dX11_mark_3 ⟨Nat.le_of_ble_eq_true rfl, Nat.le_of_ble_eq_true rfl⟩) V (fun ad _ _ hag hle V => ?_)
  replace e0 := e0.mv hag hle
  replace e1 := e1.mv hag hle
  replace e2 := e2.mv hag hle
  refine lv_aload_n hx hb dX11_mark_6 rfl (lv_at hl 0 rfl) ?_
  refine lv_aload_n hx hb dX11_mark_7 rfl (lv_at hl 1 rfl) ?_
  refine lv_aload_n hx hb dX11_mark_8 rfl (lv_at hl 2 rfl) ?_
  obtain ⟨hg, hF⟩ := dx_gd_some hF
  have k4 := of_decide_eq_true hg
  obtain ⟨r3, σ3, h3c, hF⟩ := dx_b2_some hF
  refine cl_ci (cl_runSP (n := 2) (As := [.ref a1, .ref a2]) S V e0 k4 (cm_X9_mark l D dA _ A a0 a1 a2 o0 o1 o2  σ1 _ _ e0 e1 e2 h3c) rfl rfl rfl dw_3 dw_4 V.1.2.2.2.2.2.2.1.2.2.2.2.2 q940 q1535 q104 q1536 (by decide +kernel) ⟨Nat.le_of_ble_eq_true rfl, Nat.le_of_ble_eq_true rfl⟩ rfl rfl hl.1 rfl (lv_room (Nat.le_of_ble_eq_true rfl)) dX11_mark_9 ⟨Nat.le_of_ble_eq_true rfl, Nat.le_of_ble_eq_true rfl⟩) V (fun ad _ _ hag hle V => ?_)
  replace e0 := e0.mv hag hle
  replace e1 := e1.mv hag hle
  replace e2 := e2.mv hag hle
  refine lv_aload_n hx hb dX11_mark_12 rfl (lv_at hl 2 rfl) ?_
  obtain ⟨hg, hF⟩ := dx_gd_some hF
  have k6 := of_decide_eq_true hg
  obtain ⟨r5, h5c, hF⟩ := dx_b1_some hF
  refine cl_cFi (va_runF (V.2.1.1 15 _ rfl).2 (As := []) S (cm_X18_ill l D dA _ A a2 o2  σ3 _ e2 h5c) (va_cwF 0 hts (lw_F q1558 q1561 q1563 q116 q1565) rfl rfl rfl (V.1.2.1 _ cf_Has_ill) (by decide +kernel) ⟨Nat.le_of_ble_eq_true rfl, Nat.le_of_ble_eq_true rfl⟩) (cl_preV V [] e2 k6 rfl (by decide)) rfl rfl hl.1 rfl (lv_room (Nat.le_of_ble_eq_true rfl)) dX11_mark_13 ⟨Nat.le_of_ble_eq_true rfl, Nat.le_of_ble_eq_true rfl⟩) V (fun ad _ _ hag hle V => ?_)
  replace e0 := e0.mv hag hle
  replace e1 := e1.mv hag hle
  replace e2 := e2.mv hag hle
  refine lv_iadd hx hb dX11_mark_18 ?_
  obtain ⟨hF1, hF2⟩ := dx_r2 hF
  subst hF1
  subst hF2
  exact cl_ri S V hr hlocks rfl dX11_mark_19
theorem cd_X12_mark : yX12_mark.cls ≠ "java/lang/invoke/MethodHandle" ∧ yX12_mark.cls ≠ "java/lang/invoke/VarHandle" ∧ (parseMethodDescriptor yX12_mark.desc).map (fun d => d.parameters.length) = some 2 := by decide +kernel
set_option maxHeartbeats 4000000 in
set_option maxRecDepth 100000 in
theorem cm_X12_mark (l : Launch) (D : va_G) (dA : Nat → ClassId) (ad0 : Nat → Nat) (A : Nat → Prop) (a0 : Nat) (a1 : Nat) (a2 : Nat) (o0 : Nat) (o1 : Nat) (o2 : Nat)  (σ0 : cl_S) (r : Int32) (σ' : cl_S) (e0 : cl_at ad0 σ0 a0 o0) (e1 : cl_at ad0 σ0 a1 o1) (e2 : cl_at ad0 σ0 a2 o2) (hF : cl_X12_mark o0 o1 o2 σ0 = some (r, σ')) : cl_Ci l yX12_mark cX12_mark 3 .int ({ frames := 3, cells := 0, slots := 0, locals := 65 }) D dA ad0 A [.ref a0, .ref a1, .ref a2] σ0 r σ' := by
  refine cl_in RX12 rfl (by decide) (Nat.le_of_ble_eq_true rfl) ?_
  intro p e s m below meth c ls S hr hlocks hini hv hl
  have hx := S.1
  have hb := S.2.1
  have hown := S.2.2.2.1
  have hts := S.2.2.2.2
  obtain ⟨hN, hK, hP, hD, hA, hZ⟩ := hv
  have V : cl_V D dA (ad0, cl_n σ0) ad0 A s.heap σ0 s s.heap [] := ⟨hN, hK, hP, hD, va_S.rf, hA, hZ, fun _ _ => rfl, Nat.le_refl _⟩
  obtain ⟨ad, V, e0, e1, e2⟩ : ∃ ad, cl_V D dA (ad0, cl_n σ0) ad A s.heap σ0 s s.heap [] ∧ cl_at ad σ0 a0 o0 ∧ cl_at ad σ0 a1 o1 ∧ cl_at ad σ0 a2 o2 := ⟨ad0, V, e0, e1, e2⟩
  replace hl : lv_has ls 3 [(0, .ref a0), (1, .ref a1), (2, .ref a2)] := hl
  unfold cl_X12_mark at hF
  refine lv_aload_n hx hb dX12_mark_0 rfl (lv_at hl 1 rfl) ?_
  refine lv_bipush (v := 24) hx hb dX12_mark_1 (by decide) ?_
  obtain ⟨hg, hF⟩ := dx_gd_some hF
  have k2 := of_decide_eq_true hg
  obtain ⟨σ1, h1c, hF⟩ := dx_b1_some hF
  refine cl_cv (va_runV (As := [.int (24 : Int32)]) S (cm_X5_begins l D dA _ A a1 o1 (24 : Int32) σ0 _ e1 h1c) (cwV 1 hts (lw_V q1531 q1503 q1504 q82 q1505) rfl rfl rfl ⟨rfl, cd_X5_begins⟩ ⟨Nat.le_of_ble_eq_true rfl, Nat.le_of_ble_eq_true rfl⟩) (cl_preV V [.int (24 : Int32)] e1 k2 rfl (by decide)) rfl rfl hl.1 rfl (lv_room (Nat.le_of_ble_eq_true rfl)) dX12_mark_3 ⟨Nat.le_of_ble_eq_true rfl, Nat.le_of_ble_eq_true rfl⟩) V (fun ad _ _ hag hle V => ?_)
  replace e0 := e0.mv hag hle
  replace e1 := e1.mv hag hle
  replace e2 := e2.mv hag hle
  refine lv_iconst (v := 2) hx hb dX12_mark_6 (by decide) ?_
  refine lv_aload_n hx hb dX12_mark_7 rfl (lv_at hl 0 rfl) ?_
  refine lv_aload_n hx hb dX12_mark_8 rfl (lv_at hl 1 rfl) ?_
  refine lv_aload_n hx hb dX12_mark_9 rfl (lv_at hl 2 rfl) ?_
  obtain ⟨hg, hF⟩ := dx_gd_some hF
  have k4 := of_decide_eq_true hg
  obtain ⟨r3, σ3, h3c, hF⟩ := dx_b2_some hF
  refine cl_ci (cl_runSU (n := 2) (V.2.1.1 10 _ rfl).2 (As := [.ref a1, .ref a2]) S (cm_X11_mark l D dA _ A a0 a1 a2 o0 o1 o2  σ1 _ _ e0 e1 e2 h3c) rfl rfl q1532 q1522 q948 (Or.inl rfl) q1520 q106 q1533 rfl (by decide +kernel) ⟨Nat.le_of_ble_eq_true rfl, Nat.le_of_ble_eq_true rfl⟩ (cl_preV V [.ref a1, .ref a2] e0 k4 rfl (by decide)) rfl rfl hl.1 rfl (lv_room (Nat.le_of_ble_eq_true rfl)) dX12_mark_10 ⟨Nat.le_of_ble_eq_true rfl, Nat.le_of_ble_eq_true rfl⟩) V (fun ad _ _ hag hle V => ?_)
  replace e0 := e0.mv hag hle
  replace e1 := e1.mv hag hle
  replace e2 := e2.mv hag hle
  refine lv_imul hx hb dX12_mark_13 ?_
  obtain ⟨hF1, hF2⟩ := dx_r2 hF
  subst hF1
  subst hF2
  exact cl_ri S V hr hlocks rfl dX12_mark_14
theorem cd_X13_mark : yX13_mark.cls ≠ "java/lang/invoke/MethodHandle" ∧ yX13_mark.cls ≠ "java/lang/invoke/VarHandle" ∧ (parseMethodDescriptor yX13_mark.desc).map (fun d => d.parameters.length) = some 2 := by decide +kernel
set_option maxHeartbeats 4000000 in
set_option maxRecDepth 100000 in
theorem cm_X13_mark (l : Launch) (D : va_G) (dA : Nat → ClassId) (ad0 : Nat → Nat) (A : Nat → Prop) (a0 : Nat) (a1 : Nat) (a2 : Nat) (o0 : Nat) (o1 : Nat) (o2 : Nat)  (σ0 : cl_S) (r : Int32) (σ' : cl_S) (e0 : cl_at ad0 σ0 a0 o0) (e1 : cl_at ad0 σ0 a1 o1) (e2 : cl_at ad0 σ0 a2 o2) (hF : cl_X13_mark o0 o1 o2 σ0 = some (r, σ')) : cl_Ci l yX13_mark cX13_mark 3 .int ({ frames := 3, cells := 0, slots := 0, locals := 65 }) D dA ad0 A [.ref a0, .ref a1, .ref a2] σ0 r σ' := by
  refine cl_in RX13 rfl (by decide) (Nat.le_of_ble_eq_true rfl) ?_
  intro p e s m below meth c ls S hr hlocks hini hv hl
  have hx := S.1
  have hb := S.2.1
  have hown := S.2.2.2.1
  have hts := S.2.2.2.2
  obtain ⟨hN, hK, hP, hD, hA, hZ⟩ := hv
  have V : cl_V D dA (ad0, cl_n σ0) ad0 A s.heap σ0 s s.heap [] := ⟨hN, hK, hP, hD, va_S.rf, hA, hZ, fun _ _ => rfl, Nat.le_refl _⟩
  obtain ⟨ad, V, e0, e1, e2⟩ : ∃ ad, cl_V D dA (ad0, cl_n σ0) ad A s.heap σ0 s s.heap [] ∧ cl_at ad σ0 a0 o0 ∧ cl_at ad σ0 a1 o1 ∧ cl_at ad σ0 a2 o2 := ⟨ad0, V, e0, e1, e2⟩
  replace hl : lv_has ls 3 [(0, .ref a0), (1, .ref a1), (2, .ref a2)] := hl
  unfold cl_X13_mark at hF
  refine lv_aload_n hx hb dX13_mark_0 rfl (lv_at hl 1 rfl) ?_
  refine lv_bipush (v := 22) hx hb dX13_mark_1 (by decide) ?_
  obtain ⟨hg, hF⟩ := dx_gd_some hF
  have k2 := of_decide_eq_true hg
  obtain ⟨σ1, h1c, hF⟩ := dx_b1_some hF
  refine cl_cv (va_runV (As := [.int (22 : Int32)]) S (cm_X5_begins l D dA _ A a1 o1 (22 : Int32) σ0 _ e1 h1c) (cwV 1 hts (lw_V q1526 q1503 q1504 q82 q1505) rfl rfl rfl ⟨rfl, cd_X5_begins⟩ ⟨Nat.le_of_ble_eq_true rfl, Nat.le_of_ble_eq_true rfl⟩) (cl_preV V [.int (22 : Int32)] e1 k2 rfl (by decide)) rfl rfl hl.1 rfl (lv_room (Nat.le_of_ble_eq_true rfl)) dX13_mark_3 ⟨Nat.le_of_ble_eq_true rfl, Nat.le_of_ble_eq_true rfl⟩) V (fun ad _ _ hag hle V => ?_)
  replace e0 := e0.mv hag hle
  replace e1 := e1.mv hag hle
  replace e2 := e2.mv hag hle
  refine lv_aload_n hx hb dX13_mark_6 rfl (lv_at hl 0 rfl) ?_
  refine lv_aload_n hx hb dX13_mark_7 rfl (lv_at hl 1 rfl) ?_
  refine lv_aload_n hx hb dX13_mark_8 rfl (lv_at hl 2 rfl) ?_
  obtain ⟨hg, hF⟩ := dx_gd_some hF
  have k4 := of_decide_eq_true hg
  obtain ⟨r3, σ3, h3c, hF⟩ := dx_b2_some hF
  refine cl_ci (cl_runSU (n := 2) (V.2.1.1 11 _ rfl).2 (As := [.ref a1, .ref a2]) S (cm_X11_mark l D dA _ A a0 a1 a2 o0 o1 o2  σ1 _ _ e0 e1 e2 h3c) rfl rfl q1527 q1522 q956 (Or.inl rfl) q1520 q106 q1533 rfl (by decide +kernel) ⟨Nat.le_of_ble_eq_true rfl, Nat.le_of_ble_eq_true rfl⟩ (cl_preV V [.ref a1, .ref a2] e0 k4 rfl (by decide)) rfl rfl hl.1 rfl (lv_room (Nat.le_of_ble_eq_true rfl)) dX13_mark_9 ⟨Nat.le_of_ble_eq_true rfl, Nat.le_of_ble_eq_true rfl⟩) V (fun ad _ _ hag hle V => ?_)
  replace e0 := e0.mv hag hle
  replace e1 := e1.mv hag hle
  replace e2 := e2.mv hag hle
  refine lv_sipush (v := 1000) hx hb dX13_mark_12 (by decide) ?_
  refine lv_isub hx hb dX13_mark_15 ?_
  obtain ⟨hF1, hF2⟩ := dx_r2 hF
  subst hF1
  subst hF2
  exact cl_ri S V hr hlocks rfl dX13_mark_16
set_option maxHeartbeats 4000000 in
set_option maxRecDepth 100000 in
theorem cl_dr_O_mark {p : Program} {l : Launch} {e : Env} {R : Room} {s : State} {m : MethodId} {args : Array Value} {below : List Frame} {meth : Method} {c : Code} {H : Heap} {locs : List Loc} {cells slots : Nat} {cc : ByteArray} {nL pc : Nat} {ls : Array Slot} {rest : List Value} {D : va_G} {dA : Nat → ClassId} {B : (Nat → Nat) × Nat} {ad : Nat → Nat} {A : Nat → Prop} {H0 : Heap} {σ0 : cl_S} {own : String} {index : Nat} (S : CallFix p m c cc nL s args lw_all own) (V : cl_V D dA B ad A H0 σ0 s H locs) {a0 o0 : Nat} (e0 : cl_at ad σ0 a0 o0) {a1 o1 : Nat} (e1 : cl_at ad σ0 a1 o1) {a2 o2 : Nat} (e2 : cl_at ad σ0 a2 o2) (hlink : Cond.methodLink own index ⟨"DatedContacts$Open", "mark", "(LDatedContacts$Trail;LDatedContacts$Held;)I"⟩ ∈ lw_all) {r : Int32} {σ' : cl_S} (hF : cl_dO_mark o0 o1 o2 σ0 = some (r, σ')) (hR : 4 ≤ R.frames ∧ 87 ≤ R.locals) (hsz : ls.size = nL) (hW : (rest.map fun v => v.category).sum ≤ 8) (hdg : decode cc pc = .ok (.invokevirtual index, 3)) (hf : cells + 0 ≤ R.cells ∧ slots + 0 ≤ R.slots) : va_Run p l e R s m args below meth c H locs cells slots 0 0 (F0 m pc ls ([.ref a1, .ref a2].reverse ++ .ref a0 :: rest)) rest (cl_Qi D dA ad A σ0 σ' r ((.ref a0 :: [.ref a1, .ref a2] : List Value)).toArray) A := by
  unfold cl_dO_mark at hF
  by_cases hk : cl_k σ0 o0 = 9
  · replace hF := (if_pos hk).symm.trans hF
    exact va_Run.wd (va_runU (As := [.ref a1, .ref a2]) S (cm_X11_mark l D dA _ A a0 a1 a2 o0 o1 o2 σ0 _ _ e0 e1 e2 hF) (va_cwO (owner := "DatedContacts$Open") 2 S.2.2.2.2 (lw_O hlink q1522 q1520 q1521 q1520 q106 q1533) rfl rfl rfl q1533 (by decide +kernel) ⟨Nat.le_trans (Nat.le_of_ble_eq_true rfl) hR.1, Nat.le_trans (Nat.le_of_ble_eq_true rfl) hR.2⟩) (cl_preV V [.ref a1, .ref a2] e0 hk rfl (by decide)) rfl rfl hsz rfl (lv_room hW) hdg ⟨Nat.le_trans (Nat.add_le_add_left (Nat.le_of_ble_eq_true rfl) _) hf.1, Nat.le_trans (Nat.add_le_add_left (Nat.le_of_ble_eq_true rfl) _) hf.2⟩) (Nat.le_of_ble_eq_true rfl) (Nat.le_of_ble_eq_true rfl)
  replace hF := (if_neg hk).symm.trans hF
  clear hk
  by_cases hk : cl_k σ0 o0 = 10
  · replace hF := (if_pos hk).symm.trans hF
    exact va_Run.wd (va_runU (As := [.ref a1, .ref a2]) S (cm_X12_mark l D dA _ A a0 a1 a2 o0 o1 o2 σ0 _ _ e0 e1 e2 hF) (va_cwO (owner := "DatedContacts$Open") 2 S.2.2.2.2 (lw_O hlink q1522 q1520 q1528 q1529 q107 q1530) rfl rfl rfl q1533 (by decide +kernel) ⟨Nat.le_trans (Nat.le_of_ble_eq_true rfl) hR.1, Nat.le_trans (Nat.le_of_ble_eq_true rfl) hR.2⟩) (cl_preV V [.ref a1, .ref a2] e0 hk rfl (by decide)) rfl rfl hsz rfl (lv_room hW) hdg ⟨Nat.le_trans (Nat.add_le_add_left (Nat.le_of_ble_eq_true rfl) _) hf.1, Nat.le_trans (Nat.add_le_add_left (Nat.le_of_ble_eq_true rfl) _) hf.2⟩) (Nat.le_of_ble_eq_true rfl) (Nat.le_of_ble_eq_true rfl)
  replace hF := (if_neg hk).symm.trans hF
  clear hk
  by_cases hk : cl_k σ0 o0 = 11
  · replace hF := (if_pos hk).symm.trans hF
    exact va_Run.wd (va_runU (As := [.ref a1, .ref a2]) S (cm_X13_mark l D dA _ A a0 a1 a2 o0 o1 o2 σ0 _ _ e0 e1 e2 hF) (va_cwO (owner := "DatedContacts$Open") 2 S.2.2.2.2 (lw_O hlink q1522 q1520 q1523 q1524 q108 q1525) rfl rfl rfl q1533 (by decide +kernel) ⟨Nat.le_trans (Nat.le_of_ble_eq_true rfl) hR.1, Nat.le_trans (Nat.le_of_ble_eq_true rfl) hR.2⟩) (cl_preV V [.ref a1, .ref a2] e0 hk rfl (by decide)) rfl rfl hsz rfl (lv_room hW) hdg ⟨Nat.le_trans (Nat.add_le_add_left (Nat.le_of_ble_eq_true rfl) _) hf.1, Nat.le_trans (Nat.add_le_add_left (Nat.le_of_ble_eq_true rfl) _) hf.2⟩) (Nat.le_of_ble_eq_true rfl) (Nat.le_of_ble_eq_true rfl)
  replace hF := (if_neg hk).symm.trans hF
  clear hk
  cases hF
theorem cd_X11_size : yX11_size.cls ≠ "java/lang/invoke/MethodHandle" ∧ yX11_size.cls ≠ "java/lang/invoke/VarHandle" ∧ (parseMethodDescriptor yX11_size.desc).map (fun d => d.parameters.length) = some 2 := by decide +kernel
set_option maxHeartbeats 4000000 in
set_option maxRecDepth 100000 in
theorem cm_X11_size (l : Launch) (D : va_G) (dA : Nat → ClassId) (ad0 : Nat → Nat) (A : Nat → Prop) (a0 : Nat) (a1 : Nat) (a2 : Nat) (o0 : Nat) (o1 : Nat) (o2 : Nat)  (σ0 : cl_S) (r : Int32) (σ' : cl_S) (e0 : cl_at ad0 σ0 a0 o0) (e1 : cl_at ad0 σ0 a1 o1) (e2 : cl_at ad0 σ0 a2 o2) (hF : cl_X11_size o0 o1 o2 σ0 = some (r, σ')) : cl_Ci l yX11_size cX11_size 3 .int ({ frames := 4, cells := 0, slots := 0, locals := 87 }) D dA ad0 A [.ref a0, .ref a1, .ref a2] σ0 r σ' := by
  refine cl_in RX11 rfl (by decide) (Nat.le_of_ble_eq_true rfl) ?_
  intro p e s m below meth c ls S hr hlocks hini hv hl
  have hx := S.1
  have hb := S.2.1
  have hown := S.2.2.2.1
  have hts := S.2.2.2.2
  obtain ⟨hN, hK, hP, hD, hA, hZ⟩ := hv
  have V : cl_V D dA (ad0, cl_n σ0) ad0 A s.heap σ0 s s.heap [] := ⟨hN, hK, hP, hD, va_S.rf, hA, hZ, fun _ _ => rfl, Nat.le_refl _⟩
  obtain ⟨ad, V, e0, e1, e2⟩ : ∃ ad, cl_V D dA (ad0, cl_n σ0) ad A s.heap σ0 s s.heap [] ∧ cl_at ad σ0 a0 o0 ∧ cl_at ad σ0 a1 o1 ∧ cl_at ad σ0 a2 o2 := ⟨ad0, V, e0, e1, e2⟩
  replace hl : lv_has ls 3 [(0, .ref a0), (1, .ref a1), (2, .ref a2)] := hl
  unfold cl_X11_size at hF
  refine lv_aload_n hx hb dX11_size_0 rfl (lv_at hl 1 rfl) ?_
  refine lv_bipush (v := 11) hx hb dX11_size_1 (by decide) ?_
  obtain ⟨hg, hF⟩ := dx_gd_some hF
  have k2 := of_decide_eq_true hg
  obtain ⟨σ1, h1c, hF⟩ := dx_b1_some hF
  refine cl_cv (va_runV (As := [.int (11 : Int32)]) S (cm_X5_begins l D dA _ A a1 o1 (11 : Int32) σ0 _ e1 h1c) (cwV 1 hts (lw_V q1502 q1503 q1504 q82 q1505) rfl rfl rfl ⟨rfl, cd_X5_begins⟩ ⟨Nat.le_of_ble_eq_true rfl, Nat.le_of_ble_eq_true rfl⟩) (cl_preV V [.int (11 : Int32)] e1 k2 rfl (by decide)) rfl rfl hl.1 rfl (lv_room (Nat.le_of_ble_eq_true rfl)) dX11_size_3 ⟨Nat.le_of_ble_eq_true rfl, Nat.le_of_ble_eq_true rfl⟩) V (fun ad _ _ hag hle V => ?_)
  replace e0 := e0.mv hag hle
  replace e1 := e1.mv hag hle
  replace e2 := e2.mv hag hle
  refine lv_aload_n hx hb dX11_size_6 rfl (lv_at hl 0 rfl) ?_
  refine lv_aload_n hx hb dX11_size_7 rfl (lv_at hl 1 rfl) ?_
  refine lv_aload_n hx hb dX11_size_8 rfl (lv_at hl 2 rfl) ?_
  obtain ⟨hg, hF⟩ := dx_gd_some hF
  have k4 := of_decide_eq_true hg
  obtain ⟨r3, σ3, h3c, hF⟩ := dx_b2_some hF
  refine cl_ci (cl_runSP (n := 2) (As := [.ref a1, .ref a2]) S V e0 k4 (cm_X9_size l D dA _ A a0 a1 a2 o0 o1 o2  σ1 _ _ e0 e1 e2 h3c) rfl rfl rfl dw_2 dw_1 V.1.2.2.2.2.2.2.1.2.2.2.2.1 q940 q1506 q104 q1507 (by decide +kernel) ⟨Nat.le_of_ble_eq_true rfl, Nat.le_of_ble_eq_true rfl⟩ rfl rfl hl.1 rfl (lv_room (Nat.le_of_ble_eq_true rfl)) dX11_size_9 ⟨Nat.le_of_ble_eq_true rfl, Nat.le_of_ble_eq_true rfl⟩) V (fun ad _ _ hag hle V => ?_)
  replace e0 := e0.mv hag hle
  replace e1 := e1.mv hag hle
  replace e2 := e2.mv hag hle
  refine lv_aload_n hx hb dX11_size_12 rfl (lv_at hl 0 rfl) ?_
  refine lv_aload_n hx hb dX11_size_13 rfl (lv_at hl 1 rfl) ?_
  refine lv_aload_n hx hb dX11_size_14 rfl (lv_at hl 2 rfl) ?_
  obtain ⟨r5, σ5, h5c, hF⟩ := dx_b2_some hF
  refine cl_ci (cl_dr_O_mark S V e0 e1 e2 q1519 h5c ⟨Nat.le_of_ble_eq_true rfl, Nat.le_of_ble_eq_true rfl⟩ hl.1 (Nat.le_of_ble_eq_true rfl) dX11_size_15 ⟨Nat.le_of_ble_eq_true rfl, Nat.le_of_ble_eq_true rfl⟩) V (fun ad _ _ hag hle V => ?_)
  replace e0 := e0.mv hag hle
  replace e1 := e1.mv hag hle
  replace e2 := e2.mv hag hle
  refine lv_iadd hx hb dX11_size_18 ?_
  obtain ⟨hF1, hF2⟩ := dx_r2 hF
  subst hF1
  subst hF2
  exact cl_ri S V hr hlocks rfl dX11_size_19
theorem cd_X12_size : yX12_size.cls ≠ "java/lang/invoke/MethodHandle" ∧ yX12_size.cls ≠ "java/lang/invoke/VarHandle" ∧ (parseMethodDescriptor yX12_size.desc).map (fun d => d.parameters.length) = some 2 := by decide +kernel
set_option maxHeartbeats 4000000 in
set_option maxRecDepth 100000 in
theorem cm_X12_size (l : Launch) (D : va_G) (dA : Nat → ClassId) (ad0 : Nat → Nat) (A : Nat → Prop) (a0 : Nat) (a1 : Nat) (a2 : Nat) (o0 : Nat) (o1 : Nat) (o2 : Nat)  (σ0 : cl_S) (r : Int32) (σ' : cl_S) (e0 : cl_at ad0 σ0 a0 o0) (e1 : cl_at ad0 σ0 a1 o1) (e2 : cl_at ad0 σ0 a2 o2) (hF : cl_X12_size o0 o1 o2 σ0 = some (r, σ')) : cl_Ci l yX12_size cX12_size 3 .int ({ frames := 5, cells := 0, slots := 0, locals := 109 }) D dA ad0 A [.ref a0, .ref a1, .ref a2] σ0 r σ' := by
  refine cl_in RX12 rfl (by decide) (Nat.le_of_ble_eq_true rfl) ?_
  intro p e s m below meth c ls S hr hlocks hini hv hl
  have hx := S.1
  have hb := S.2.1
  have hown := S.2.2.2.1
  have hts := S.2.2.2.2
  obtain ⟨hN, hK, hP, hD, hA, hZ⟩ := hv
  have V : cl_V D dA (ad0, cl_n σ0) ad0 A s.heap σ0 s s.heap [] := ⟨hN, hK, hP, hD, va_S.rf, hA, hZ, fun _ _ => rfl, Nat.le_refl _⟩
  obtain ⟨ad, V, e0, e1, e2⟩ : ∃ ad, cl_V D dA (ad0, cl_n σ0) ad A s.heap σ0 s s.heap [] ∧ cl_at ad σ0 a0 o0 ∧ cl_at ad σ0 a1 o1 ∧ cl_at ad σ0 a2 o2 := ⟨ad0, V, e0, e1, e2⟩
  replace hl : lv_has ls 3 [(0, .ref a0), (1, .ref a1), (2, .ref a2)] := hl
  unfold cl_X12_size at hF
  refine lv_aload_n hx hb dX12_size_0 rfl (lv_at hl 1 rfl) ?_
  refine lv_bipush (v := 12) hx hb dX12_size_1 (by decide) ?_
  obtain ⟨hg, hF⟩ := dx_gd_some hF
  have k2 := of_decide_eq_true hg
  obtain ⟨σ1, h1c, hF⟩ := dx_b1_some hF
  refine cl_cv (va_runV (As := [.int (12 : Int32)]) S (cm_X5_begins l D dA _ A a1 o1 (12 : Int32) σ0 _ e1 h1c) (cwV 1 hts (lw_V q1531 q1503 q1504 q82 q1505) rfl rfl rfl ⟨rfl, cd_X5_begins⟩ ⟨Nat.le_of_ble_eq_true rfl, Nat.le_of_ble_eq_true rfl⟩) (cl_preV V [.int (12 : Int32)] e1 k2 rfl (by decide)) rfl rfl hl.1 rfl (lv_room (Nat.le_of_ble_eq_true rfl)) dX12_size_3 ⟨Nat.le_of_ble_eq_true rfl, Nat.le_of_ble_eq_true rfl⟩) V (fun ad _ _ hag hle V => ?_)
  replace e0 := e0.mv hag hle
  replace e1 := e1.mv hag hle
  replace e2 := e2.mv hag hle
  refine lv_aload_n hx hb dX12_size_6 rfl (lv_at hl 0 rfl) ?_
  refine lv_aload_n hx hb dX12_size_7 rfl (lv_at hl 1 rfl) ?_
  refine lv_aload_n hx hb dX12_size_8 rfl (lv_at hl 2 rfl) ?_
  obtain ⟨hg, hF⟩ := dx_gd_some hF
  have k4 := of_decide_eq_true hg
  obtain ⟨r3, σ3, h3c, hF⟩ := dx_b2_some hF
  refine cl_ci (cl_runSU (n := 2) (V.2.1.1 10 _ rfl).2 (As := [.ref a1, .ref a2]) S (cm_X11_size l D dA _ A a0 a1 a2 o0 o1 o2  σ1 _ _ e0 e1 e2 h3c) rfl rfl q1569 q2065 q948 (Or.inl rfl) q1500 q106 q1501 rfl (by decide +kernel) ⟨Nat.le_of_ble_eq_true rfl, Nat.le_of_ble_eq_true rfl⟩ (cl_preV V [.ref a1, .ref a2] e0 k4 rfl (by decide)) rfl rfl hl.1 rfl (lv_room (Nat.le_of_ble_eq_true rfl)) dX12_size_9 ⟨Nat.le_of_ble_eq_true rfl, Nat.le_of_ble_eq_true rfl⟩) V (fun ad _ _ hag hle V => ?_)
  replace e0 := e0.mv hag hle
  replace e1 := e1.mv hag hle
  replace e2 := e2.mv hag hle
  refine lv_ineg hx hb dX12_size_12 ?_
  obtain ⟨hF1, hF2⟩ := dx_r2 hF
  subst hF1
  subst hF2
  exact cl_ri S V hr hlocks rfl dX12_size_13
theorem cd_X14_size : yX14_size.cls ≠ "java/lang/invoke/MethodHandle" ∧ yX14_size.cls ≠ "java/lang/invoke/VarHandle" ∧ (parseMethodDescriptor yX14_size.desc).map (fun d => d.parameters.length) = some 2 := by decide +kernel
set_option maxHeartbeats 4000000 in
set_option maxRecDepth 100000 in
theorem cm_X14_size (l : Launch) (D : va_G) (dA : Nat → ClassId) (ad0 : Nat → Nat) (A : Nat → Prop) (a0 : Nat) (a1 : Nat) (a2 : Nat) (o0 : Nat) (o1 : Nat) (o2 : Nat)  (σ0 : cl_S) (r : Int32) (σ' : cl_S) (e0 : cl_at ad0 σ0 a0 o0) (e1 : cl_at ad0 σ0 a1 o1) (e2 : cl_at ad0 σ0 a2 o2) (hF : cl_X14_size o0 o1 o2 σ0 = some (r, σ')) : cl_Ci l yX14_size cX14_size 3 .int ({ frames := 2, cells := 0, slots := 0, locals := 43 }) D dA ad0 A [.ref a0, .ref a1, .ref a2] σ0 r σ' := by
  refine cl_in RX14 rfl (by decide) (Nat.le_of_ble_eq_true rfl) ?_
  intro p e s m below meth c ls S hr hlocks hini hv hl
  have hx := S.1
  have hb := S.2.1
  have hown := S.2.2.2.1
  have hts := S.2.2.2.2
  obtain ⟨hN, hK, hP, hD, hA, hZ⟩ := hv
  have V : cl_V D dA (ad0, cl_n σ0) ad0 A s.heap σ0 s s.heap [] := ⟨hN, hK, hP, hD, va_S.rf, hA, hZ, fun _ _ => rfl, Nat.le_refl _⟩
  obtain ⟨ad, V, e0, e1, e2⟩ : ∃ ad, cl_V D dA (ad0, cl_n σ0) ad A s.heap σ0 s s.heap [] ∧ cl_at ad σ0 a0 o0 ∧ cl_at ad σ0 a1 o1 ∧ cl_at ad σ0 a2 o2 := ⟨ad0, V, e0, e1, e2⟩
  replace hl : lv_has ls 3 [(0, .ref a0), (1, .ref a1), (2, .ref a2)] := hl
  unfold cl_X14_size at hF
  refine lv_aload_n hx hb dX14_size_0 rfl (lv_at hl 1 rfl) ?_
  refine lv_bipush (v := 13) hx hb dX14_size_1 (by decide) ?_
  obtain ⟨hg, hF⟩ := dx_gd_some hF
  have k2 := of_decide_eq_true hg
  obtain ⟨σ1, h1c, hF⟩ := dx_b1_some hF
  refine cl_cv (va_runV (As := [.int (13 : Int32)]) S (cm_X5_begins l D dA _ A a1 o1 (13 : Int32) σ0 _ e1 h1c) (cwV 1 hts (lw_V q1578 q1503 q1504 q82 q1505) rfl rfl rfl ⟨rfl, cd_X5_begins⟩ ⟨Nat.le_of_ble_eq_true rfl, Nat.le_of_ble_eq_true rfl⟩) (cl_preV V [.int (13 : Int32)] e1 k2 rfl (by decide)) rfl rfl hl.1 rfl (lv_room (Nat.le_of_ble_eq_true rfl)) dX14_size_3 ⟨Nat.le_of_ble_eq_true rfl, Nat.le_of_ble_eq_true rfl⟩) V (fun ad _ _ hag hle V => ?_)
  replace e0 := e0.mv hag hle
  replace e1 := e1.mv hag hle
  replace e2 := e2.mv hag hle
  refine lv_aload_n hx hb dX14_size_6 rfl (lv_at hl 0 rfl) ?_
  refine lv_aload_n hx hb dX14_size_7 rfl (lv_at hl 1 rfl) ?_
  refine lv_aload_n hx hb dX14_size_8 rfl (lv_at hl 2 rfl) ?_
  obtain ⟨hg, hF⟩ := dx_gd_some hF
  have k4 := of_decide_eq_true hg
  obtain ⟨r3, σ3, h3c, hF⟩ := dx_b2_some hF
  refine cl_ci (cl_runSP (n := 2) (As := [.ref a1, .ref a2]) S V e0 k4 (cm_X9_size l D dA _ A a0 a1 a2 o0 o1 o2  σ1 _ _ e0 e1 e2 h3c) rfl rfl rfl dw_5 dw_1 V.1.2.2.2.2.2.2.1.2.2.2.2.1 q964 q1506 q104 q1507 (by decide +kernel) ⟨Nat.le_of_ble_eq_true rfl, Nat.le_of_ble_eq_true rfl⟩ rfl rfl hl.1 rfl (lv_room (Nat.le_of_ble_eq_true rfl)) dX14_size_9 ⟨Nat.le_of_ble_eq_true rfl, Nat.le_of_ble_eq_true rfl⟩) V (fun ad _ _ hag hle V => ?_)
  replace e0 := e0.mv hag hle
  replace e1 := e1.mv hag hle
  replace e2 := e2.mv hag hle
  refine lv_bipush (v := 100) hx hb dX14_size_12 (by decide) ?_
  refine lv_isub hx hb dX14_size_14 ?_
  obtain ⟨hF1, hF2⟩ := dx_r2 hF
  subst hF1
  subst hF2
  exact cl_ri S V hr hlocks rfl dX14_size_15
theorem cd_X15_size : yX15_size.cls ≠ "java/lang/invoke/MethodHandle" ∧ yX15_size.cls ≠ "java/lang/invoke/VarHandle" ∧ (parseMethodDescriptor yX15_size.desc).map (fun d => d.parameters.length) = some 2 := by decide +kernel
set_option maxHeartbeats 4000000 in
set_option maxRecDepth 100000 in
theorem cm_X15_size (l : Launch) (D : va_G) (dA : Nat → ClassId) (ad0 : Nat → Nat) (A : Nat → Prop) (a0 : Nat) (a1 : Nat) (a2 : Nat) (o0 : Nat) (o1 : Nat) (o2 : Nat)  (σ0 : cl_S) (r : Int32) (σ' : cl_S) (e0 : cl_at ad0 σ0 a0 o0) (e1 : cl_at ad0 σ0 a1 o1) (e2 : cl_at ad0 σ0 a2 o2) (hF : cl_X15_size o0 o1 o2 σ0 = some (r, σ')) : cl_Ci l yX15_size cX15_size 3 .int ({ frames := 3, cells := 0, slots := 0, locals := 65 }) D dA ad0 A [.ref a0, .ref a1, .ref a2] σ0 r σ' := by
  refine cl_in RX15 rfl (by decide) (Nat.le_of_ble_eq_true rfl) ?_
  intro p e s m below meth c ls S hr hlocks hini hv hl
  have hx := S.1
  have hb := S.2.1
  have hown := S.2.2.2.1
  have hts := S.2.2.2.2
  obtain ⟨hN, hK, hP, hD, hA, hZ⟩ := hv
  have V : cl_V D dA (ad0, cl_n σ0) ad0 A s.heap σ0 s s.heap [] := ⟨hN, hK, hP, hD, va_S.rf, hA, hZ, fun _ _ => rfl, Nat.le_refl _⟩
  obtain ⟨ad, V, e0, e1, e2⟩ : ∃ ad, cl_V D dA (ad0, cl_n σ0) ad A s.heap σ0 s s.heap [] ∧ cl_at ad σ0 a0 o0 ∧ cl_at ad σ0 a1 o1 ∧ cl_at ad σ0 a2 o2 := ⟨ad0, V, e0, e1, e2⟩
  replace hl : lv_has ls 3 [(0, .ref a0), (1, .ref a1), (2, .ref a2)] := hl
  unfold cl_X15_size at hF
  refine lv_aload_n hx hb dX15_size_0 rfl (lv_at hl 1 rfl) ?_
  refine lv_bipush (v := 14) hx hb dX15_size_1 (by decide) ?_
  obtain ⟨hg, hF⟩ := dx_gd_some hF
  have k2 := of_decide_eq_true hg
  obtain ⟨σ1, h1c, hF⟩ := dx_b1_some hF
  refine cl_cv (va_runV (As := [.int (14 : Int32)]) S (cm_X5_begins l D dA _ A a1 o1 (14 : Int32) σ0 _ e1 h1c) (cwV 1 hts (lw_V q1574 q1503 q1504 q82 q1505) rfl rfl rfl ⟨rfl, cd_X5_begins⟩ ⟨Nat.le_of_ble_eq_true rfl, Nat.le_of_ble_eq_true rfl⟩) (cl_preV V [.int (14 : Int32)] e1 k2 rfl (by decide)) rfl rfl hl.1 rfl (lv_room (Nat.le_of_ble_eq_true rfl)) dX15_size_3 ⟨Nat.le_of_ble_eq_true rfl, Nat.le_of_ble_eq_true rfl⟩) V (fun ad _ _ hag hle V => ?_)
  replace e0 := e0.mv hag hle
  replace e1 := e1.mv hag hle
  replace e2 := e2.mv hag hle
  refine lv_iconst (v := 2) hx hb dX15_size_6 (by decide) ?_
  refine lv_aload_n hx hb dX15_size_7 rfl (lv_at hl 0 rfl) ?_
  refine lv_aload_n hx hb dX15_size_8 rfl (lv_at hl 1 rfl) ?_
  refine lv_aload_n hx hb dX15_size_9 rfl (lv_at hl 2 rfl) ?_
  obtain ⟨hg, hF⟩ := dx_gd_some hF
  have k4 := of_decide_eq_true hg
  obtain ⟨r3, σ3, h3c, hF⟩ := dx_b2_some hF
  refine cl_ci (cl_runSU (n := 2) (V.2.1.1 13 _ rfl).2 (As := [.ref a1, .ref a2]) S (cm_X14_size l D dA _ A a0 a1 a2 o0 o1 o2  σ1 _ _ e0 e1 e2 h3c) rfl rfl q1575 q2066 q972 (Or.inl rfl) q1576 q109 q1577 rfl (by decide +kernel) ⟨Nat.le_of_ble_eq_true rfl, Nat.le_of_ble_eq_true rfl⟩ (cl_preV V [.ref a1, .ref a2] e0 k4 rfl (by decide)) rfl rfl hl.1 rfl (lv_room (Nat.le_of_ble_eq_true rfl)) dX15_size_10 ⟨Nat.le_of_ble_eq_true rfl, Nat.le_of_ble_eq_true rfl⟩) V (fun ad _ _ hag hle V => ?_)
  replace e0 := e0.mv hag hle
  replace e1 := e1.mv hag hle
  replace e2 := e2.mv hag hle
  refine lv_imul hx hb dX15_size_13 ?_
  obtain ⟨hF1, hF2⟩ := dx_r2 hF
  subst hF1
  subst hF2
  exact cl_ri S V hr hlocks rfl dX15_size_14
set_option maxHeartbeats 4000000 in
set_option maxRecDepth 100000 in
theorem cl_dr_size {p : Program} {l : Launch} {e : Env} {R : Room} {s : State} {m : MethodId} {args : Array Value} {below : List Frame} {meth : Method} {c : Code} {H : Heap} {locs : List Loc} {cells slots : Nat} {cc : ByteArray} {nL pc : Nat} {ls : Array Slot} {rest : List Value} {D : va_G} {dA : Nat → ClassId} {B : (Nat → Nat) × Nat} {ad : Nat → Nat} {A : Nat → Prop} {H0 : Heap} {σ0 : cl_S} {own : String} {index : Nat} (S : CallFix p m c cc nL s args lw_all own) (V : cl_V D dA B ad A H0 σ0 s H locs) {a0 o0 : Nat} (e0 : cl_at ad σ0 a0 o0) {a1 o1 : Nat} (e1 : cl_at ad σ0 a1 o1) {a2 o2 : Nat} (e2 : cl_at ad σ0 a2 o2) (hlink : Cond.methodLink own index ⟨"DatedContacts$Person", "size", "(LDatedContacts$Trail;LDatedContacts$Held;)I"⟩ ∈ cl_dws) {r : Int32} {σ' : cl_S} (hF : cl_dP_size o0 o1 o2 σ0 = some (r, σ')) (hR : 6 ≤ R.frames ∧ 131 ≤ R.locals) (hsz : ls.size = nL) (hW : (rest.map fun v => v.category).sum ≤ 8) (hdg : decode cc pc = .ok (.invokevirtual index, 3)) (hf : cells + 0 ≤ R.cells ∧ slots + 0 ≤ R.slots) : va_Run p l e R s m args below meth c H locs cells slots 0 0 (F0 m pc ls ([.ref a1, .ref a2].reverse ++ .ref a0 :: rest)) rest (cl_Qi D dA ad A σ0 σ' r ((.ref a0 :: [.ref a1, .ref a2] : List Value)).toArray) A := by
  unfold cl_dP_size at hF
  by_cases hk : cl_k σ0 o0 = 9
  · replace hF := (if_pos hk).symm.trans hF
    exact va_Run.wd (va_runU (As := [.ref a1, .ref a2]) S (cm_X11_size l D dA _ A a0 a1 a2 o0 o1 o2 σ0 _ _ e0 e1 e2 hF) (cl_cwP (k := 2) S.2.2.2.2 V.1.1 (va_Nw.use rfl (V.1.2.2.2.2.2.2.1.1 _ hlink)) (va_Nw.use rfl (V.1.2.2.2.2.2.2.1.1 _ dw_1)) cn_q1498 q1570 q1500 q106 q1501 (by decide +kernel) ⟨Nat.le_trans (Nat.le_of_ble_eq_true rfl) hR.1, Nat.le_trans (Nat.le_of_ble_eq_true rfl) hR.2⟩) (cl_preV V [.ref a1, .ref a2] e0 hk rfl (by decide)) rfl rfl hsz rfl (lv_room hW) hdg ⟨Nat.le_trans (Nat.add_le_add_left (Nat.le_of_ble_eq_true rfl) _) hf.1, Nat.le_trans (Nat.add_le_add_left (Nat.le_of_ble_eq_true rfl) _) hf.2⟩) (Nat.le_of_ble_eq_true rfl) (Nat.le_of_ble_eq_true rfl)
  replace hF := (if_neg hk).symm.trans hF
  clear hk
  by_cases hk : cl_k σ0 o0 = 10
  · replace hF := (if_pos hk).symm.trans hF
    exact va_Run.wd (va_runU (As := [.ref a1, .ref a2]) S (cm_X12_size l D dA _ A a0 a1 a2 o0 o1 o2 σ0 _ _ e0 e1 e2 hF) (cl_cwP (k := 2) S.2.2.2.2 V.1.1 (va_Nw.use rfl (V.1.2.2.2.2.2.2.1.1 _ hlink)) (va_Nw.use rfl (V.1.2.2.2.2.2.2.1.1 _ dw_1)) cn_q1498 q1566 q1567 q107 q1568 (by decide +kernel) ⟨Nat.le_trans (Nat.le_of_ble_eq_true rfl) hR.1, Nat.le_trans (Nat.le_of_ble_eq_true rfl) hR.2⟩) (cl_preV V [.ref a1, .ref a2] e0 hk rfl (by decide)) rfl rfl hsz rfl (lv_room hW) hdg ⟨Nat.le_trans (Nat.add_le_add_left (Nat.le_of_ble_eq_true rfl) _) hf.1, Nat.le_trans (Nat.add_le_add_left (Nat.le_of_ble_eq_true rfl) _) hf.2⟩) (Nat.le_of_ble_eq_true rfl) (Nat.le_of_ble_eq_true rfl)
  replace hF := (if_neg hk).symm.trans hF
  clear hk
  by_cases hk : cl_k σ0 o0 = 11
  · replace hF := (if_pos hk).symm.trans hF
    exact va_Run.wd (va_runU (As := [.ref a1, .ref a2]) S (cm_X11_size l D dA _ A a0 a1 a2 o0 o1 o2 σ0 _ _ e0 e1 e2 hF) (cl_cwP (k := 2) S.2.2.2.2 V.1.1 (va_Nw.use rfl (V.1.2.2.2.2.2.2.1.1 _ hlink)) (va_Nw.use rfl (V.1.2.2.2.2.2.2.1.1 _ dw_1)) cn_q1498 q1499 q1500 q106 q1501 (by decide +kernel) ⟨Nat.le_trans (Nat.le_of_ble_eq_true rfl) hR.1, Nat.le_trans (Nat.le_of_ble_eq_true rfl) hR.2⟩) (cl_preV V [.ref a1, .ref a2] e0 hk rfl (by decide)) rfl rfl hsz rfl (lv_room hW) hdg ⟨Nat.le_trans (Nat.add_le_add_left (Nat.le_of_ble_eq_true rfl) _) hf.1, Nat.le_trans (Nat.add_le_add_left (Nat.le_of_ble_eq_true rfl) _) hf.2⟩) (Nat.le_of_ble_eq_true rfl) (Nat.le_of_ble_eq_true rfl)
  replace hF := (if_neg hk).symm.trans hF
  clear hk
  by_cases hk : cl_k σ0 o0 = 12
  · replace hF := (if_pos hk).symm.trans hF
    exact va_Run.wd (va_runU (As := [.ref a1, .ref a2]) S (cm_X14_size l D dA _ A a0 a1 a2 o0 o1 o2 σ0 _ _ e0 e1 e2 hF) (cl_cwP (k := 2) S.2.2.2.2 V.1.1 (va_Nw.use rfl (V.1.2.2.2.2.2.2.1.1 _ hlink)) (va_Nw.use rfl (V.1.2.2.2.2.2.2.1.1 _ dw_1)) cn_q1498 q1579 q1576 q109 q1577 (by decide +kernel) ⟨Nat.le_trans (Nat.le_of_ble_eq_true rfl) hR.1, Nat.le_trans (Nat.le_of_ble_eq_true rfl) hR.2⟩) (cl_preV V [.ref a1, .ref a2] e0 hk rfl (by decide)) rfl rfl hsz rfl (lv_room hW) hdg ⟨Nat.le_trans (Nat.add_le_add_left (Nat.le_of_ble_eq_true rfl) _) hf.1, Nat.le_trans (Nat.add_le_add_left (Nat.le_of_ble_eq_true rfl) _) hf.2⟩) (Nat.le_of_ble_eq_true rfl) (Nat.le_of_ble_eq_true rfl)
  replace hF := (if_neg hk).symm.trans hF
  clear hk
  by_cases hk : cl_k σ0 o0 = 13
  · replace hF := (if_pos hk).symm.trans hF
    exact va_Run.wd (va_runU (As := [.ref a1, .ref a2]) S (cm_X15_size l D dA _ A a0 a1 a2 o0 o1 o2 σ0 _ _ e0 e1 e2 hF) (cl_cwP (k := 2) S.2.2.2.2 V.1.1 (va_Nw.use rfl (V.1.2.2.2.2.2.2.1.1 _ hlink)) (va_Nw.use rfl (V.1.2.2.2.2.2.2.1.1 _ dw_1)) cn_q1498 q1571 q1572 q110 q1573 (by decide +kernel) ⟨Nat.le_trans (Nat.le_of_ble_eq_true rfl) hR.1, Nat.le_trans (Nat.le_of_ble_eq_true rfl) hR.2⟩) (cl_preV V [.ref a1, .ref a2] e0 hk rfl (by decide)) rfl rfl hsz rfl (lv_room hW) hdg ⟨Nat.le_trans (Nat.add_le_add_left (Nat.le_of_ble_eq_true rfl) _) hf.1, Nat.le_trans (Nat.add_le_add_left (Nat.le_of_ble_eq_true rfl) _) hf.2⟩) (Nat.le_of_ble_eq_true rfl) (Nat.le_of_ble_eq_true rfl)
  replace hF := (if_neg hk).symm.trans hF
  clear hk
  cases hF
set_option maxHeartbeats 4000000 in
set_option maxRecDepth 100000 in
theorem cl_dr_W_size {p : Program} {l : Launch} {e : Env} {R : Room} {s : State} {m : MethodId} {args : Array Value} {below : List Frame} {meth : Method} {c : Code} {H : Heap} {locs : List Loc} {cells slots : Nat} {cc : ByteArray} {nL pc : Nat} {ls : Array Slot} {rest : List Value} {D : va_G} {dA : Nat → ClassId} {B : (Nat → Nat) × Nat} {ad : Nat → Nat} {A : Nat → Prop} {H0 : Heap} {σ0 : cl_S} {own : String} {index : Nat} (S : CallFix p m c cc nL s args lw_all own) (V : cl_V D dA B ad A H0 σ0 s H locs) {a0 o0 : Nat} (e0 : cl_at ad σ0 a0 o0) {a1 o1 : Nat} (e1 : cl_at ad σ0 a1 o1) {a2 o2 : Nat} (e2 : cl_at ad σ0 a2 o2) (hlink : Cond.methodLink own index ⟨"DatedContacts$Ward", "size", "(LDatedContacts$Trail;LDatedContacts$Held;)I"⟩ ∈ lw_all) {r : Int32} {σ' : cl_S} (hF : cl_dW_size o0 o1 o2 σ0 = some (r, σ')) (hR : 4 ≤ R.frames ∧ 87 ≤ R.locals) (hsz : ls.size = nL) (hW : (rest.map fun v => v.category).sum ≤ 8) (hdg : decode cc pc = .ok (.invokevirtual index, 3)) (hf : cells + 0 ≤ R.cells ∧ slots + 0 ≤ R.slots) : va_Run p l e R s m args below meth c H locs cells slots 0 0 (F0 m pc ls ([.ref a1, .ref a2].reverse ++ .ref a0 :: rest)) rest (cl_Qi D dA ad A σ0 σ' r ((.ref a0 :: [.ref a1, .ref a2] : List Value)).toArray) A := by
  unfold cl_dW_size at hF
  by_cases hk : cl_k σ0 o0 = 12
  · replace hF := (if_pos hk).symm.trans hF
    exact va_Run.wd (va_runU (As := [.ref a1, .ref a2]) S (cm_X14_size l D dA _ A a0 a1 a2 o0 o1 o2 σ0 _ _ e0 e1 e2 hF) (va_cwO (owner := "DatedContacts$Ward") 2 S.2.2.2.2 (lw_O hlink q2066 q1576 q2068 q1576 q109 q1577) rfl rfl rfl q1577 (by decide +kernel) ⟨Nat.le_trans (Nat.le_of_ble_eq_true rfl) hR.1, Nat.le_trans (Nat.le_of_ble_eq_true rfl) hR.2⟩) (cl_preV V [.ref a1, .ref a2] e0 hk rfl (by decide)) rfl rfl hsz rfl (lv_room hW) hdg ⟨Nat.le_trans (Nat.add_le_add_left (Nat.le_of_ble_eq_true rfl) _) hf.1, Nat.le_trans (Nat.add_le_add_left (Nat.le_of_ble_eq_true rfl) _) hf.2⟩) (Nat.le_of_ble_eq_true rfl) (Nat.le_of_ble_eq_true rfl)
  replace hF := (if_neg hk).symm.trans hF
  clear hk
  by_cases hk : cl_k σ0 o0 = 13
  · replace hF := (if_pos hk).symm.trans hF
    exact va_Run.wd (va_runU (As := [.ref a1, .ref a2]) S (cm_X15_size l D dA _ A a0 a1 a2 o0 o1 o2 σ0 _ _ e0 e1 e2 hF) (va_cwO (owner := "DatedContacts$Ward") 2 S.2.2.2.2 (lw_O hlink q2066 q1576 q2067 q1572 q110 q1573) rfl rfl rfl q1577 (by decide +kernel) ⟨Nat.le_trans (Nat.le_of_ble_eq_true rfl) hR.1, Nat.le_trans (Nat.le_of_ble_eq_true rfl) hR.2⟩) (cl_preV V [.ref a1, .ref a2] e0 hk rfl (by decide)) rfl rfl hsz rfl (lv_room hW) hdg ⟨Nat.le_trans (Nat.add_le_add_left (Nat.le_of_ble_eq_true rfl) _) hf.1, Nat.le_trans (Nat.add_le_add_left (Nat.le_of_ble_eq_true rfl) _) hf.2⟩) (Nat.le_of_ble_eq_true rfl) (Nat.le_of_ble_eq_true rfl)
  replace hF := (if_neg hk).symm.trans hF
  clear hk
  cases hF
theorem cd_X14_mark : yX14_mark.cls ≠ "java/lang/invoke/MethodHandle" ∧ yX14_mark.cls ≠ "java/lang/invoke/VarHandle" ∧ (parseMethodDescriptor yX14_mark.desc).map (fun d => d.parameters.length) = some 2 := by decide +kernel
set_option maxHeartbeats 4000000 in
set_option maxRecDepth 100000 in
theorem cm_X14_mark (l : Launch) (D : va_G) (dA : Nat → ClassId) (ad0 : Nat → Nat) (A : Nat → Prop) (a0 : Nat) (a1 : Nat) (a2 : Nat) (o0 : Nat) (o1 : Nat) (o2 : Nat)  (σ0 : cl_S) (r : Int32) (σ' : cl_S) (e0 : cl_at ad0 σ0 a0 o0) (e1 : cl_at ad0 σ0 a1 o1) (e2 : cl_at ad0 σ0 a2 o2) (hF : cl_X14_mark o0 o1 o2 σ0 = some (r, σ')) : cl_Ci l yX14_mark cX14_mark 3 .int ({ frames := 4, cells := 0, slots := 0, locals := 87 }) D dA ad0 A [.ref a0, .ref a1, .ref a2] σ0 r σ' := by
  refine cl_in RX14 rfl (by decide) (Nat.le_of_ble_eq_true rfl) ?_
  intro p e s m below meth c ls S hr hlocks hini hv hl
  have hx := S.1
  have hb := S.2.1
  have hown := S.2.2.2.1
  have hts := S.2.2.2.2
  obtain ⟨hN, hK, hP, hD, hA, hZ⟩ := hv
  have V : cl_V D dA (ad0, cl_n σ0) ad0 A s.heap σ0 s s.heap [] := ⟨hN, hK, hP, hD, va_S.rf, hA, hZ, fun _ _ => rfl, Nat.le_refl _⟩
  obtain ⟨ad, V, e0, e1, e2⟩ : ∃ ad, cl_V D dA (ad0, cl_n σ0) ad A s.heap σ0 s s.heap [] ∧ cl_at ad σ0 a0 o0 ∧ cl_at ad σ0 a1 o1 ∧ cl_at ad σ0 a2 o2 := ⟨ad0, V, e0, e1, e2⟩
  replace hl : lv_has ls 3 [(0, .ref a0), (1, .ref a1), (2, .ref a2)] := hl
  unfold cl_X14_mark at hF
  refine lv_aload_n hx hb dX14_mark_0 rfl (lv_at hl 1 rfl) ?_
  refine lv_bipush (v := 23) hx hb dX14_mark_1 (by decide) ?_
  obtain ⟨hg, hF⟩ := dx_gd_some hF
  have k2 := of_decide_eq_true hg
  obtain ⟨σ1, h1c, hF⟩ := dx_b1_some hF
  refine cl_cv (va_runV (As := [.int (23 : Int32)]) S (cm_X5_begins l D dA _ A a1 o1 (23 : Int32) σ0 _ e1 h1c) (cwV 1 hts (lw_V q1578 q1503 q1504 q82 q1505) rfl rfl rfl ⟨rfl, cd_X5_begins⟩ ⟨Nat.le_of_ble_eq_true rfl, Nat.le_of_ble_eq_true rfl⟩) (cl_preV V [.int (23 : Int32)] e1 k2 rfl (by decide)) rfl rfl hl.1 rfl (lv_room (Nat.le_of_ble_eq_true rfl)) dX14_mark_3 ⟨Nat.le_of_ble_eq_true rfl, Nat.le_of_ble_eq_true rfl⟩) V (fun ad _ _ hag hle V => ?_)
  replace e0 := e0.mv hag hle
  replace e1 := e1.mv hag hle
  replace e2 := e2.mv hag hle
  refine lv_aload_n hx hb dX14_mark_6 rfl (lv_at hl 0 rfl) ?_
  refine lv_aload_n hx hb dX14_mark_7 rfl (lv_at hl 1 rfl) ?_
  refine lv_aload_n hx hb dX14_mark_8 rfl (lv_at hl 2 rfl) ?_
  obtain ⟨hg, hF⟩ := dx_gd_some hF
  have k4 := of_decide_eq_true hg
  obtain ⟨r3, σ3, h3c, hF⟩ := dx_b2_some hF
  refine cl_ci (cl_runSP (n := 2) (As := [.ref a1, .ref a2]) S V e0 k4 (cm_X9_mark l D dA _ A a0 a1 a2 o0 o1 o2  σ1 _ _ e0 e1 e2 h3c) rfl rfl rfl dw_7 dw_4 V.1.2.2.2.2.2.2.1.2.2.2.2.2 q964 q1535 q104 q1536 (by decide +kernel) ⟨Nat.le_of_ble_eq_true rfl, Nat.le_of_ble_eq_true rfl⟩ rfl rfl hl.1 rfl (lv_room (Nat.le_of_ble_eq_true rfl)) dX14_mark_9 ⟨Nat.le_of_ble_eq_true rfl, Nat.le_of_ble_eq_true rfl⟩) V (fun ad _ _ hag hle V => ?_)
  replace e0 := e0.mv hag hle
  replace e1 := e1.mv hag hle
  replace e2 := e2.mv hag hle
  refine lv_aload_n hx hb dX14_mark_12 rfl (lv_at hl 0 rfl) ?_
  refine lv_aload_n hx hb dX14_mark_13 rfl (lv_at hl 1 rfl) ?_
  refine lv_aload_n hx hb dX14_mark_14 rfl (lv_at hl 2 rfl) ?_
  obtain ⟨r5, σ5, h5c, hF⟩ := dx_b2_some hF
  refine cl_ci (cl_dr_W_size S V e0 e1 e2 q1586 h5c ⟨Nat.le_of_ble_eq_true rfl, Nat.le_of_ble_eq_true rfl⟩ hl.1 (Nat.le_of_ble_eq_true rfl) dX14_mark_15 ⟨Nat.le_of_ble_eq_true rfl, Nat.le_of_ble_eq_true rfl⟩) V (fun ad _ _ hag hle V => ?_)
  replace e0 := e0.mv hag hle
  replace e1 := e1.mv hag hle
  replace e2 := e2.mv hag hle
  refine lv_isub hx hb dX14_mark_18 ?_
  obtain ⟨hF1, hF2⟩ := dx_r2 hF
  subst hF1
  subst hF2
  exact cl_ri S V hr hlocks rfl dX14_mark_19
set_option maxHeartbeats 4000000 in
set_option maxRecDepth 100000 in
theorem cl_dr_mark {p : Program} {l : Launch} {e : Env} {R : Room} {s : State} {m : MethodId} {args : Array Value} {below : List Frame} {meth : Method} {c : Code} {H : Heap} {locs : List Loc} {cells slots : Nat} {cc : ByteArray} {nL pc : Nat} {ls : Array Slot} {rest : List Value} {D : va_G} {dA : Nat → ClassId} {B : (Nat → Nat) × Nat} {ad : Nat → Nat} {A : Nat → Prop} {H0 : Heap} {σ0 : cl_S} {own : String} {index : Nat} (S : CallFix p m c cc nL s args lw_all own) (V : cl_V D dA B ad A H0 σ0 s H locs) {a0 o0 : Nat} (e0 : cl_at ad σ0 a0 o0) {a1 o1 : Nat} (e1 : cl_at ad σ0 a1 o1) {a2 o2 : Nat} (e2 : cl_at ad σ0 a2 o2) (hlink : Cond.methodLink own index ⟨"DatedContacts$Person", "mark", "(LDatedContacts$Trail;LDatedContacts$Held;)I"⟩ ∈ cl_dws) {r : Int32} {σ' : cl_S} (hF : cl_dP_mark o0 o1 o2 σ0 = some (r, σ')) (hR : 5 ≤ R.frames ∧ 109 ≤ R.locals) (hsz : ls.size = nL) (hW : (rest.map fun v => v.category).sum ≤ 8) (hdg : decode cc pc = .ok (.invokevirtual index, 3)) (hf : cells + 0 ≤ R.cells ∧ slots + 0 ≤ R.slots) : va_Run p l e R s m args below meth c H locs cells slots 0 0 (F0 m pc ls ([.ref a1, .ref a2].reverse ++ .ref a0 :: rest)) rest (cl_Qi D dA ad A σ0 σ' r ((.ref a0 :: [.ref a1, .ref a2] : List Value)).toArray) A := by
  unfold cl_dP_mark at hF
  by_cases hk : cl_k σ0 o0 = 9
  · replace hF := (if_pos hk).symm.trans hF
    exact va_Run.wd (va_runU (As := [.ref a1, .ref a2]) S (cm_X11_mark l D dA _ A a0 a1 a2 o0 o1 o2 σ0 _ _ e0 e1 e2 hF) (cl_cwP (k := 2) S.2.2.2.2 V.1.1 (va_Nw.use rfl (V.1.2.2.2.2.2.2.1.1 _ hlink)) (va_Nw.use rfl (V.1.2.2.2.2.2.2.1.1 _ dw_4)) cn_q1534 q1582 q1520 q106 q1533 (by decide +kernel) ⟨Nat.le_trans (Nat.le_of_ble_eq_true rfl) hR.1, Nat.le_trans (Nat.le_of_ble_eq_true rfl) hR.2⟩) (cl_preV V [.ref a1, .ref a2] e0 hk rfl (by decide)) rfl rfl hsz rfl (lv_room hW) hdg ⟨Nat.le_trans (Nat.add_le_add_left (Nat.le_of_ble_eq_true rfl) _) hf.1, Nat.le_trans (Nat.add_le_add_left (Nat.le_of_ble_eq_true rfl) _) hf.2⟩) (Nat.le_of_ble_eq_true rfl) (Nat.le_of_ble_eq_true rfl)
  replace hF := (if_neg hk).symm.trans hF
  clear hk
  by_cases hk : cl_k σ0 o0 = 10
  · replace hF := (if_pos hk).symm.trans hF
    exact va_Run.wd (va_runU (As := [.ref a1, .ref a2]) S (cm_X12_mark l D dA _ A a0 a1 a2 o0 o1 o2 σ0 _ _ e0 e1 e2 hF) (cl_cwP (k := 2) S.2.2.2.2 V.1.1 (va_Nw.use rfl (V.1.2.2.2.2.2.2.1.1 _ hlink)) (va_Nw.use rfl (V.1.2.2.2.2.2.2.1.1 _ dw_4)) cn_q1534 q1581 q1529 q107 q1530 (by decide +kernel) ⟨Nat.le_trans (Nat.le_of_ble_eq_true rfl) hR.1, Nat.le_trans (Nat.le_of_ble_eq_true rfl) hR.2⟩) (cl_preV V [.ref a1, .ref a2] e0 hk rfl (by decide)) rfl rfl hsz rfl (lv_room hW) hdg ⟨Nat.le_trans (Nat.add_le_add_left (Nat.le_of_ble_eq_true rfl) _) hf.1, Nat.le_trans (Nat.add_le_add_left (Nat.le_of_ble_eq_true rfl) _) hf.2⟩) (Nat.le_of_ble_eq_true rfl) (Nat.le_of_ble_eq_true rfl)
  replace hF := (if_neg hk).symm.trans hF
  clear hk
  by_cases hk : cl_k σ0 o0 = 11
  · replace hF := (if_pos hk).symm.trans hF
    exact va_Run.wd (va_runU (As := [.ref a1, .ref a2]) S (cm_X13_mark l D dA _ A a0 a1 a2 o0 o1 o2 σ0 _ _ e0 e1 e2 hF) (cl_cwP (k := 2) S.2.2.2.2 V.1.1 (va_Nw.use rfl (V.1.2.2.2.2.2.2.1.1 _ hlink)) (va_Nw.use rfl (V.1.2.2.2.2.2.2.1.1 _ dw_4)) cn_q1534 q1580 q1524 q108 q1525 (by decide +kernel) ⟨Nat.le_trans (Nat.le_of_ble_eq_true rfl) hR.1, Nat.le_trans (Nat.le_of_ble_eq_true rfl) hR.2⟩) (cl_preV V [.ref a1, .ref a2] e0 hk rfl (by decide)) rfl rfl hsz rfl (lv_room hW) hdg ⟨Nat.le_trans (Nat.add_le_add_left (Nat.le_of_ble_eq_true rfl) _) hf.1, Nat.le_trans (Nat.add_le_add_left (Nat.le_of_ble_eq_true rfl) _) hf.2⟩) (Nat.le_of_ble_eq_true rfl) (Nat.le_of_ble_eq_true rfl)
  replace hF := (if_neg hk).symm.trans hF
  clear hk
  by_cases hk : cl_k σ0 o0 = 12
  · replace hF := (if_pos hk).symm.trans hF
    exact va_Run.wd (va_runU (As := [.ref a1, .ref a2]) S (cm_X14_mark l D dA _ A a0 a1 a2 o0 o1 o2 σ0 _ _ e0 e1 e2 hF) (cl_cwP (k := 2) S.2.2.2.2 V.1.1 (va_Nw.use rfl (V.1.2.2.2.2.2.2.1.1 _ hlink)) (va_Nw.use rfl (V.1.2.2.2.2.2.2.1.1 _ dw_4)) cn_q1534 q1587 q1584 q109 q1585 (by decide +kernel) ⟨Nat.le_trans (Nat.le_of_ble_eq_true rfl) hR.1, Nat.le_trans (Nat.le_of_ble_eq_true rfl) hR.2⟩) (cl_preV V [.ref a1, .ref a2] e0 hk rfl (by decide)) rfl rfl hsz rfl (lv_room hW) hdg ⟨Nat.le_trans (Nat.add_le_add_left (Nat.le_of_ble_eq_true rfl) _) hf.1, Nat.le_trans (Nat.add_le_add_left (Nat.le_of_ble_eq_true rfl) _) hf.2⟩) (Nat.le_of_ble_eq_true rfl) (Nat.le_of_ble_eq_true rfl)
  replace hF := (if_neg hk).symm.trans hF
  clear hk
  by_cases hk : cl_k σ0 o0 = 13
  · replace hF := (if_pos hk).symm.trans hF
    exact va_Run.wd (va_runU (As := [.ref a1, .ref a2]) S (cm_X14_mark l D dA _ A a0 a1 a2 o0 o1 o2 σ0 _ _ e0 e1 e2 hF) (cl_cwP (k := 2) S.2.2.2.2 V.1.1 (va_Nw.use rfl (V.1.2.2.2.2.2.2.1.1 _ hlink)) (va_Nw.use rfl (V.1.2.2.2.2.2.2.1.1 _ dw_4)) cn_q1534 q1583 q1584 q109 q1585 (by decide +kernel) ⟨Nat.le_trans (Nat.le_of_ble_eq_true rfl) hR.1, Nat.le_trans (Nat.le_of_ble_eq_true rfl) hR.2⟩) (cl_preV V [.ref a1, .ref a2] e0 hk rfl (by decide)) rfl rfl hsz rfl (lv_room hW) hdg ⟨Nat.le_trans (Nat.add_le_add_left (Nat.le_of_ble_eq_true rfl) _) hf.1, Nat.le_trans (Nat.add_le_add_left (Nat.le_of_ble_eq_true rfl) _) hf.2⟩) (Nat.le_of_ble_eq_true rfl) (Nat.le_of_ble_eq_true rfl)
  replace hF := (if_neg hk).symm.trans hF
  clear hk
  cases hF
theorem cd_X0_ask : yX0_ask.cls ≠ "java/lang/invoke/MethodHandle" ∧ yX0_ask.cls ≠ "java/lang/invoke/VarHandle" ∧ (parseMethodDescriptor yX0_ask.desc).map (fun d => d.parameters.length) = some 2 := by decide +kernel
set_option maxHeartbeats 4000000 in
set_option maxRecDepth 100000 in
theorem cm_X0_ask (l : Launch) (D : va_G) (dA : Nat → ClassId) (ad0 : Nat → Nat) (A : Nat → Prop) (a0 : Nat) (o0 : Nat) (p0 : Int32) (p1 : Int32) (σ0 : cl_S) (r : Int32) (σ' : cl_S) (e0 : cl_at ad0 σ0 a0 o0) (hF : cl_X0_ask o0 σ0 p0 p1 = some (r, σ')) : cl_Ci l yX0_ask cX0_ask 5 .int ({ frames := 6, cells := 3, slots := 20, locals := 131 }) D dA ad0 A [.ref a0, .int p0, .int p1] σ0 r σ' := by
  refine cl_in RX0 rfl (by decide) (Nat.le_of_ble_eq_true rfl) ?_
  intro p e s m below meth c ls S hr hlocks hini hv hl
  have hx := S.1
  have hb := S.2.1
  have hown := S.2.2.2.1
  have hts := S.2.2.2.2
  obtain ⟨hN, hK, hP, hD, hA, hZ⟩ := hv
  have V : cl_V D dA (ad0, cl_n σ0) ad0 A s.heap σ0 s s.heap [] := ⟨hN, hK, hP, hD, va_S.rf, hA, hZ, fun _ _ => rfl, Nat.le_refl _⟩
  obtain ⟨ad, V, e0⟩ : ∃ ad, cl_V D dA (ad0, cl_n σ0) ad A s.heap σ0 s s.heap [] ∧ cl_at ad σ0 a0 o0 := ⟨ad0, V, e0⟩
  replace hl : lv_has ls 5 [(0, .ref a0), (1, .int p0), (2, .int p1)] := hl
  unfold cl_X0_ask at hF
  refine lv_aload_n hx hb dX0_ask_0 rfl (lv_at hl 0 rfl) ?_
  refine lv_iload_n hx hb dX0_ask_1 rfl (lv_at hl 1 rfl) ?_
  obtain ⟨hg, hF⟩ := dx_gd_some hF
  have k2 := of_decide_eq_true hg
  obtain ⟨r1, h1c, hF⟩ := dx_b1_some hF
  refine cl_ci (va_runV (As := [.int p0]) S (cm_X0_isPerson l D dA _ A a0 o0 p0 σ0 _ e0 h1c) (cwV 1 hts (lw_V q1059 q1061 qs17 q77 q1062) rfl rfl rfl ⟨rfl, cd_X0_isPerson⟩ ⟨Nat.le_of_ble_eq_true rfl, Nat.le_of_ble_eq_true rfl⟩) (cl_preV V [.int p0] e0 k2 rfl (by decide)) rfl rfl hl.1 rfl (lv_room (Nat.le_of_ble_eq_true rfl)) dX0_ask_2 ⟨Nat.le_of_ble_eq_true rfl, Nat.le_of_ble_eq_true rfl⟩) V (fun ad _ _ hag hle V => ?_)
  replace e0 := e0.mv hag hle
  refine lv_if_eq (tgt := 18) hx hb dX0_ask_5 (by decide) (fun hc => ?_) (fun hc => ?_)
  · replace hF := dx_ib_f (dx_bI_0 hc) hF
    refine lv_ldc hx hb hown (hts _ q406) dX0_ask_18 ?_
    refine W.widen (k := 3) (n := 20) (by first | omega | (dsimp only; omega)) (by first | omega | (dsimp only; omega)) ?_
    obtain ⟨hF1, hF2⟩ := dx_r2 hF
    subst hF1
    subst hF2
    exact cl_ri S V hr hlocks rfl dX0_ask_20
  · replace hF := dx_ib_t (dx_bI_n hc) hF
    refine lv_iload_n hx hb dX0_ask_8 rfl (lv_at hl 2 rfl) ?_
    refine lv_i2l hx hb dX0_ask_9 rfl ?_
    refine lv_lconst (v := 0) hx hb dX0_ask_10 (by decide) ?_
    refine lv_lconst (v := 1) hx hb dX0_ask_11 (by decide) ?_
    obtain ⟨r3, h3c, hF⟩ := dx_b1_some hF
    refine dx_cPi S [.long p1.toInt64, .long (0 : Int64), .long (1 : Int64)] (cm_X0_isIn l p1.toInt64 (0 : Int64) (1 : Int64) _ h3c) (va_cwS 3 hts (lw_S q402 q403 q77 q404) rfl rfl rfl cd_X0_isIn ⟨Nat.le_of_ble_eq_true rfl, Nat.le_of_ble_eq_true rfl⟩) rfl rfl hl.1 (Nat.le_of_ble_eq_true rfl) dX0_ask_12 ⟨Nat.le_of_ble_eq_true rfl, Nat.le_of_ble_eq_true rfl⟩ ?_
    refine lv_if_ne (tgt := 21) hx hb dX0_ask_15 (by decide) (fun hc => ?_) (fun hc => ?_)
    · replace hF := dx_ib_t (dx_bI_n hc) hF
      refine lv_aload_n hx hb dX0_ask_21 rfl (lv_at hl 0 rfl) ?_
      refine cl_new S V rfl (by decide) in_X5 tyX5 tyX5_ok cl_dfX5 q253 q254 q82 (Nat.le_of_ble_eq_true rfl) (Nat.le_of_ble_eq_true rfl) dX0_ask_22 (fun bb4 ad _ hag ee4 V => ?_)
      replace e0 := cl_at.nw 5 0 e0 hag
      have k4 : cl_k (cl_nw σ0 5 0) (cl_n σ0 + 1) = 5 := cl_k_nw
      refine lv_dup hx hb dX0_ask_25 rfl ?_
      obtain ⟨σ5, h5c, hF⟩ := dx_b1_some hF
      refine cl_cv (va_runIN (As := []) S (cm_X5_init l D dA _ A bb4 (cl_n σ0 + 1)  (cl_nw σ0 5 0) _ ee4 h5c) ⟨va_cnB 0 hts (lw_meth q257) rfl rfl rfl (V.1.1 _ cn_q255) (hts _ q82) cd_X5_init ⟨Nat.le_of_ble_eq_true rfl, Nat.le_of_ble_eq_true rfl⟩, rfl, hts _ q256⟩ (cl_preS V [.ref bb4]) rfl rfl hl.1 rfl (lv_room (Nat.le_of_ble_eq_true rfl)) dX0_ask_26 ⟨Nat.le_of_ble_eq_true rfl, Nat.le_of_ble_eq_true rfl⟩) V (fun ad _ _ hag hle V => ?_)
      replace e0 := e0.mv hag hle
      replace ee4 := ee4.mv hag hle
      obtain ⟨hg, hF⟩ := dx_gd_some hF
      have k6 := of_decide_eq_true hg
      refine cl_pr S V e0 k6 rfl (by decide) in_X0 tyX0 tyX0_ok nmX0 11 (by decide) rfl q279 rfl rfl ee4 rfl rfl dX0_ask_29 (fun _ _ V => ?_)
      refine lv_aload_n hx hb dX0_ask_32 rfl (lv_at hl 0 rfl) ?_
      obtain ⟨hg, hF⟩ := dx_gd_some hF
      refine cl_gr S V e0 k6 rfl (by decide) in_X0 4 (by decide) rfl q272 rfl dX0_ask_33 (of_decide_eq_true hg) (fun bb7 ee7 => ?_)
      obtain ⟨hg, hF⟩ := dx_gd_some hF
      have k8 := of_decide_eq_true hg
      obtain ⟨hg, hF⟩ := dx_gd_some hF
      refine cl_gr S V ee7 k8 rfl (by decide) in_X2 4 (by decide) rfl q166 rfl dX0_ask_36 (of_decide_eq_true hg) (fun bb9 ee9 => ?_)
      refine lv_iload_n hx hb dX0_ask_39 rfl (lv_at hl 1 rfl) ?_
      obtain ⟨hg, hF⟩ := dx_gd_some hF
      have k10 := of_decide_eq_true hg
      obtain ⟨hi11, hF⟩ := dx_gd_some hF
      obtain ⟨hg, hF⟩ := dx_gd_some hF
      refine cl_lr 4 25 S V ee9 k10 (by decide) rfl (dx_inb_in hi11) dX0_ask_40 (of_decide_eq_true hg) (fun bb12 ee12 => ?_)
      refine lv_astore_n (lv' := [(3, .ref bb12), (0, .ref a0), (1, .int p0), (2, .int p1)]) hx hb dX0_ask_41 rfl hl (by decide) rfl (fun ls hl => ?_)
      refine cl_new S V rfl (by decide) in_X18 tyX18 tyX18_ok cl_dfX18 q1483 q1484 q116 (Nat.le_of_ble_eq_true rfl) (Nat.le_of_ble_eq_true rfl) dX0_ask_42 (fun bb13 ad _ hag ee13 V => ?_)
      replace e0 := cl_at.nw 15 0 e0 hag
      replace ee12 := cl_at.nw 15 0 ee12 hag
      have k13 : cl_k (cl_nw (cl_wr σ5 o0 11 (cl_n σ0 + 1)) 15 0) (cl_n (cl_wr σ5 o0 11 (cl_n σ0 + 1)) + 1) = 15 := cl_k_nw
      refine lv_dup hx hb dX0_ask_45 rfl ?_
      refine lv_aload_n hx hb dX0_ask_46 rfl (lv_at hl 1 rfl) ?_
      obtain ⟨hg, hF⟩ := dx_gd_some hF
      have k14 := of_decide_eq_true hg
      obtain ⟨hg, hF⟩ := dx_gd_some hF
      refine cl_gr S V e0 k14 rfl (by decide) in_X0 4 (by decide) rfl q272 rfl dX0_ask_47 (of_decide_eq_true hg) (fun bb15 ee15 => ?_)
      refine lv_iload_n hx hb dX0_ask_50 rfl (lv_at hl 2 rfl) ?_
      obtain ⟨hg, hF⟩ := dx_gd_some hF
      have k17 := of_decide_eq_true hg
      obtain ⟨r16, h16c, hF⟩ := dx_b1_some hF
      refine cl_ci (va_runV (As := [.int p0]) S (cm_X2_of l D dA _ A bb15 (cl_r (cl_nw (cl_wr σ5 o0 11 (cl_n σ0 + 1)) 15 0) o0 4) p0 (cl_nw (cl_wr σ5 o0 11 (cl_n σ0 + 1)) 15 0) _ ee15 h16c) (cwV 1 hts (lw_V q1139 q1140 q1141 q79 q1142) rfl rfl rfl ⟨rfl, cd_X2_of⟩ ⟨Nat.le_of_ble_eq_true rfl, Nat.le_of_ble_eq_true rfl⟩) (cl_preV V [.int p0] ee15 k17 rfl (by decide)) rfl rfl hl.1 rfl (lv_room (Nat.le_of_ble_eq_true rfl)) dX0_ask_51 ⟨Nat.le_of_ble_eq_true rfl, Nat.le_of_ble_eq_true rfl⟩) V (fun ad _ _ hag hle V => ?_)
      replace ee13 := ee13.mv hag hle
      replace e0 := e0.mv hag hle
      replace ee12 := ee12.mv hag hle
      obtain ⟨r18, h18c, hF⟩ := dx_b1_some hF
      refine dx_cPi S [.int r16] (cm_J17_bitCount l r16 _ h18c) (va_cwS 1 hts (lw_S q1350 q1351 q114 q1352) rfl rfl rfl cd_J17_bitCount ⟨Nat.le_of_ble_eq_true rfl, Nat.le_of_ble_eq_true rfl⟩) rfl rfl hl.1 (Nat.le_of_ble_eq_true rfl) dX0_ask_54 ⟨Nat.le_of_ble_eq_true rfl, Nat.le_of_ble_eq_true rfl⟩ ?_
      refine lv_iconst (v := 0) hx hb dX0_ask_57 (by decide) ?_
      refine lv_aload_n hx hb dX0_ask_58 rfl (lv_at hl 1 rfl) ?_
      obtain ⟨hg, hF⟩ := dx_gd_some hF
      refine cl_gr S V e0 k14 rfl (by decide) in_X0 4 (by decide) rfl q272 rfl dX0_ask_59 (of_decide_eq_true hg) (fun bb19 ee19 => ?_)
      obtain ⟨hg, hF⟩ := dx_gd_some hF
      refine cl_gr S V ee19 k17 rfl (by decide) in_X2 5 (by decide) rfl q169 rfl dX0_ask_62 (of_decide_eq_true hg) (fun bb20 ee20 => ?_)
      refine lv_iload_n hx hb dX0_ask_65 rfl (lv_at hl 2 rfl) ?_
      obtain ⟨hg, hF⟩ := dx_gd_some hF
      have k21 := of_decide_eq_true hg
      obtain ⟨hg, hF⟩ := dx_gd_some hF
      refine cl_ld S V ee20 k21 (dx_inb_in hg) dX0_ask_66 ?_
      refine va_mmax hx hb (by rw [hl.1]; exact S.2.2.1) hown (hts _ q1485) (hts _ q677) (hts _ q100) (hts _ q678) (Nat.le_of_ble_eq_true rfl) (Nat.le_of_ble_eq_true rfl) (Nat.le_of_ble_eq_true rfl) (Nat.le_of_ble_eq_true rfl) dX0_ask_67 ?_
      obtain ⟨σ22, h22c, hF⟩ := dx_b1_some hF
      refine cl_cv (va_runI (As := [.int r18, .int (if (0 : Int32) < (cl_i (cl_nw (cl_wr σ5 o0 11 (cl_n σ0 + 1)) 15 0) (cl_r (cl_nw (cl_wr σ5 o0 11 (cl_n σ0 + 1)) 15 0) (cl_r (cl_nw (cl_wr σ5 o0 11 (cl_n σ0 + 1)) 15 0) o0 4) 5) p0.toNatClampNeg) then (cl_i (cl_nw (cl_wr σ5 o0 11 (cl_n σ0 + 1)) 15 0) (cl_r (cl_nw (cl_wr σ5 o0 11 (cl_n σ0 + 1)) 15 0) (cl_r (cl_nw (cl_wr σ5 o0 11 (cl_n σ0 + 1)) 15 0) o0 4) 5) p0.toNatClampNeg) else (0 : Int32))]) S (cm_X18_init l D dA _ A bb13 (cl_n (cl_wr σ5 o0 11 (cl_n σ0 + 1)) + 1) r18 (if (0 : Int32) < (cl_i (cl_nw (cl_wr σ5 o0 11 (cl_n σ0 + 1)) 15 0) (cl_r (cl_nw (cl_wr σ5 o0 11 (cl_n σ0 + 1)) 15 0) (cl_r (cl_nw (cl_wr σ5 o0 11 (cl_n σ0 + 1)) 15 0) o0 4) 5) p0.toNatClampNeg) then (cl_i (cl_nw (cl_wr σ5 o0 11 (cl_n σ0 + 1)) 15 0) (cl_r (cl_nw (cl_wr σ5 o0 11 (cl_n σ0 + 1)) 15 0) (cl_r (cl_nw (cl_wr σ5 o0 11 (cl_n σ0 + 1)) 15 0) o0 4) 5) p0.toNatClampNeg) else (0 : Int32)) (cl_nw (cl_wr σ5 o0 11 (cl_n σ0 + 1)) 15 0) _ ee13 h22c) (cwI 2 hts (lw_meth q1488) rfl rfl rfl (hts _ q116) (hts _ q1486) (hts _ q1487) rfl cd_X18_init ⟨Nat.le_of_ble_eq_true rfl, Nat.le_of_ble_eq_true rfl⟩) (cl_preS V [.ref bb13, .int r18, .int (if (0 : Int32) < (cl_i (cl_nw (cl_wr σ5 o0 11 (cl_n σ0 + 1)) 15 0) (cl_r (cl_nw (cl_wr σ5 o0 11 (cl_n σ0 + 1)) 15 0) (cl_r (cl_nw (cl_wr σ5 o0 11 (cl_n σ0 + 1)) 15 0) o0 4) 5) p0.toNatClampNeg) then (cl_i (cl_nw (cl_wr σ5 o0 11 (cl_n σ0 + 1)) 15 0) (cl_r (cl_nw (cl_wr σ5 o0 11 (cl_n σ0 + 1)) 15 0) (cl_r (cl_nw (cl_wr σ5 o0 11 (cl_n σ0 + 1)) 15 0) o0 4) 5) p0.toNatClampNeg) else (0 : Int32))]) rfl rfl hl.1 rfl (lv_room (Nat.le_of_ble_eq_true rfl)) dX0_ask_70 ⟨Nat.le_of_ble_eq_true rfl, Nat.le_of_ble_eq_true rfl⟩) V (fun ad _ _ hag hle V => ?_)
      replace ee13 := ee13.mv hag hle
      replace e0 := e0.mv hag hle
      replace ee12 := ee12.mv hag hle
      refine lv_astore (lv' := [(4, .ref bb13), (3, .ref bb12), (0, .ref a0), (1, .int p0), (2, .int p1)]) hx hb dX0_ask_73 hl (by decide) rfl (fun ls hl => ?_)
      refine lv_iload_n hx hb dX0_ask_75 rfl (lv_at hl 4 rfl) ?_
      refine lv_if_ne (tgt := 92) hx hb dX0_ask_76 (by decide) (fun hc => ?_) (fun hc => ?_)
      · replace hF := (if_neg hc).symm.trans hF
        refine lv_aload_n hx hb dX0_ask_92 rfl (lv_at hl 1 rfl) ?_
        refine lv_aload_n hx hb dX0_ask_93 rfl (lv_at hl 2 rfl) ?_
        obtain ⟨hg, hF⟩ := dx_gd_some hF
        have k23 := of_decide_eq_true hg
        obtain ⟨hg, hF⟩ := dx_gd_some hF
        refine cl_gr S V e0 k23 rfl (by decide) in_X0 11 (by decide) rfl q279 rfl dX0_ask_94 (of_decide_eq_true hg) (fun bb24 ee24 => ?_)
        refine lv_aload hx hb dX0_ask_97 (lv_at hl 0 rfl) ?_
        obtain ⟨r25, σ25, h25c, hF⟩ := dx_b2_some hF
        refine cl_ci (cl_dr_mark S V ee12 ee24 ee13 dw_6 h25c ⟨Nat.le_of_ble_eq_true rfl, Nat.le_of_ble_eq_true rfl⟩ hl.1 (Nat.le_of_ble_eq_true rfl) dX0_ask_99 ⟨Nat.le_of_ble_eq_true rfl, Nat.le_of_ble_eq_true rfl⟩) V (fun ad _ _ hag hle V => ?_)
        replace e0 := e0.mv hag hle
        replace ee12 := ee12.mv hag hle
        replace ee13 := ee13.mv hag hle
        refine W.widen (k := 3) (n := 20) (by first | omega | (dsimp only; omega)) (by first | omega | (dsimp only; omega)) ?_
        obtain ⟨hF1, hF2⟩ := dx_r2 hF
        subst hF1
        subst hF2
        exact cl_ri S V hr hlocks rfl dX0_ask_102
      · replace hF := (if_pos hc).symm.trans hF
        refine lv_aload_n hx hb dX0_ask_79 rfl (lv_at hl 1 rfl) ?_
        refine lv_aload_n hx hb dX0_ask_80 rfl (lv_at hl 2 rfl) ?_
        obtain ⟨hg, hF⟩ := dx_gd_some hF
        have k26 := of_decide_eq_true hg
        obtain ⟨hg, hF⟩ := dx_gd_some hF
        refine cl_gr S V e0 k26 rfl (by decide) in_X0 11 (by decide) rfl q279 rfl dX0_ask_81 (of_decide_eq_true hg) (fun bb27 ee27 => ?_)
        refine lv_aload hx hb dX0_ask_84 (lv_at hl 0 rfl) ?_
        obtain ⟨r28, σ28, h28c, hF⟩ := dx_b2_some hF
        refine cl_ci (cl_dr_size S V ee12 ee27 ee13 dw_0 h28c ⟨Nat.le_of_ble_eq_true rfl, Nat.le_of_ble_eq_true rfl⟩ hl.1 (Nat.le_of_ble_eq_true rfl) dX0_ask_86 ⟨Nat.le_of_ble_eq_true rfl, Nat.le_of_ble_eq_true rfl⟩) V (fun ad _ _ hag hle V => ?_)
        replace e0 := e0.mv hag hle
        replace ee12 := ee12.mv hag hle
        replace ee13 := ee13.mv hag hle
        refine lv_goto (tgt := 102) hx hb dX0_ask_89 (by decide) ?_
        refine W.widen (k := 3) (n := 20) (by first | omega | (dsimp only; omega)) (by first | omega | (dsimp only; omega)) ?_
        obtain ⟨hF1, hF2⟩ := dx_r2 hF
        subst hF1
        subst hF2
        exact cl_ri S V hr hlocks rfl dX0_ask_102
    · replace hF := dx_ib_f (dx_bI_0 hc) hF
      refine lv_ldc hx hb hown (hts _ q406) dX0_ask_18 ?_
      refine W.widen (k := 3) (n := 20) (by first | omega | (dsimp only; omega)) (by first | omega | (dsimp only; omega)) ?_
      obtain ⟨hF1, hF2⟩ := dx_r2 hF
      subst hF1
      subst hF2
      exact cl_ri S V hr hlocks rfl dX0_ask_20
