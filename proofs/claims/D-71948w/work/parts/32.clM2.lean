/-! the class side read back and walked (printed by gen/clmain.py) -/
theorem cd_X13_window : yX13_window.cls ≠ "java/lang/invoke/MethodHandle" ∧ yX13_window.cls ≠ "java/lang/invoke/VarHandle" ∧ (parseMethodDescriptor yX13_window.desc).map (fun d => d.parameters.length) = some 1 := by decide +kernel
set_option maxHeartbeats 4000000 in
set_option maxRecDepth 100000 in
theorem cm_X13_window (l : Launch) (D : va_G) (dA : Nat → ClassId) (ad0 : Nat → Nat) (A : Nat → Prop) (a0 : Nat) (a1 : Nat) (o0 : Nat) (o1 : Nat)  (σ0 : cl_S) (r : Nat) (σ' : cl_S) (e0 : cl_at ad0 σ0 a0 o0) (e1 : cl_at ad0 σ0 a1 o1) (hF : cl_X13_window o0 o1 σ0 = some (r, σ')) : cl_Cr l yX13_window cX13_window 3 (.object "DatedContacts$Window") ({ frames := 2, cells := 1, slots := 2, locals := 42 }) D dA ad0 A [.ref a0, .ref a1] σ0 r σ' := by
  refine cl_in RX13 rfl (by decide) (Nat.le_of_ble_eq_true rfl) ?_
  intro p e s m below meth c ls S hr hlocks hini hv hl
  have hx := S.1
  have hb := S.2.1
  have hown := S.2.2.2.1
  have hts := S.2.2.2.2
  obtain ⟨hN, hK, hP, hD, hA, hZ⟩ := hv
  have V : cl_V D dA (ad0, cl_n σ0) ad0 A s.heap σ0 s s.heap [] := ⟨hN, hK, hP, hD, va_S.rf, hA, hZ, fun _ _ => rfl, Nat.le_refl _⟩
  obtain ⟨ad, V, e0, e1⟩ : ∃ ad, cl_V D dA (ad0, cl_n σ0) ad A s.heap σ0 s s.heap [] ∧ cl_at ad σ0 a0 o0 ∧ cl_at ad σ0 a1 o1 := ⟨ad0, V, e0, e1⟩
  replace hl : lv_has ls 3 [(0, .ref a0), (1, .ref a1)] := hl
  unfold cl_X13_window at hF
  refine lv_aload_n hx hb dX13_window_0 rfl (lv_at hl 0 rfl) ?_
  refine lv_aload_n hx hb dX13_window_1 rfl (lv_at hl 1 rfl) ?_
  obtain ⟨hg, hF⟩ := dx_gd_some hF
  have k2 := of_decide_eq_true hg
  obtain ⟨r1, h1c, hF⟩ := dx_b1_some hF
  obtain ⟨hg, hF⟩ := dx_gd_some hF
  refine cl_cr (cl_runSU (n := 1) (V.2.1.1 11 _ rfl).2 (As := [.ref a1]) S (cm_X10_window l D dA _ A a0 a1 o0 o1  σ0 _ e0 e1 h1c) rfl rfl q1005 q1006 q956 (Or.inr q940) q1000 q105 q1045 rfl (by decide +kernel) ⟨Nat.le_of_ble_eq_true rfl, Nat.le_of_ble_eq_true rfl⟩ (cl_preV V [.ref a1] e0 k2 rfl (by decide)) rfl rfl hl.1 rfl (lv_room (Nat.le_of_ble_eq_true rfl)) dX13_window_2 ⟨Nat.le_of_ble_eq_true rfl, Nat.le_of_ble_eq_true rfl⟩) V (of_decide_eq_true hg) (fun bb1 ad _ _ hag hle ee1 V => ?_)
  replace e0 := e0.mv hag hle
  replace e1 := e1.mv hag hle
  refine lv_astore_n (lv' := [(2, .ref bb1), (0, .ref a0), (1, .ref a1)]) hx hb dX13_window_5 rfl hl (by decide) rfl (fun ls hl => ?_)
  refine cl_new S V rfl (by decide) in_X16 tyX16 tyX16_ok cl_dfX16 q1008 q987 q111 (Nat.le_of_ble_eq_true rfl) (Nat.le_of_ble_eq_true rfl) dX13_window_6 (fun bb3 ad _ hag ee3 V => ?_)
  replace e0 := cl_at.nw 14 0 e0 hag
  replace e1 := cl_at.nw 14 0 e1 hag
  replace ee1 := cl_at.nw 14 0 ee1 hag
  have k3 : cl_k (cl_nw σ0 14 0) (cl_n σ0 + 1) = 14 := cl_k_nw
  refine lv_dup hx hb dX13_window_9 rfl ?_
  refine lv_aload_n hx hb dX13_window_10 rfl (lv_at hl 0 rfl) ?_
  obtain ⟨hg, hF⟩ := dx_gd_some hF
  have k5 := of_decide_eq_true hg
  obtain ⟨r4, h4c, hF⟩ := dx_b1_some hF
  refine cl_cFi (va_runF (V.2.1.1 14 _ rfl).2 (As := []) S (cm_X16_least l D dA _ A bb1 r1  (cl_nw σ0 14 0) _ ee1 h4c) (va_cwF 0 hts (lw_F q1010 q1014 q1016 q111 q1018) rfl rfl rfl (V.1.2.1 _ cf_Told_least) (by decide +kernel) ⟨Nat.le_of_ble_eq_true rfl, Nat.le_of_ble_eq_true rfl⟩) (cl_preV V [] ee1 k5 rfl (by decide)) rfl rfl hl.1 rfl (lv_room (Nat.le_of_ble_eq_true rfl)) dX13_window_11 ⟨Nat.le_of_ble_eq_true rfl, Nat.le_of_ble_eq_true rfl⟩) V (fun ad _ _ hag hle V => ?_)
  replace ee3 := ee3.mv hag hle
  replace e0 := e0.mv hag hle
  replace e1 := e1.mv hag hle
  replace ee1 := ee1.mv hag hle
  refine lv_aload_n hx hb dX13_window_16 rfl (lv_at hl 0 rfl) ?_
  obtain ⟨r6, h6c, hF⟩ := dx_b1_some hF
  refine cl_cFi (va_runF (V.2.1.1 14 _ rfl).2 (As := []) S (cm_X16_least l D dA _ A bb1 r1  (cl_nw σ0 14 0) _ ee1 h6c) (va_cwF 0 hts (lw_F q1010 q1014 q1016 q111 q1018) rfl rfl rfl (V.1.2.1 _ cf_Told_least) (by decide +kernel) ⟨Nat.le_of_ble_eq_true rfl, Nat.le_of_ble_eq_true rfl⟩) (cl_preV V [] ee1 k5 rfl (by decide)) rfl rfl hl.1 rfl (lv_room (Nat.le_of_ble_eq_true rfl)) dX13_window_17 ⟨Nat.le_of_ble_eq_true rfl, Nat.le_of_ble_eq_true rfl⟩) V (fun ad _ _ hag hle V => ?_)
  replace ee3 := ee3.mv hag hle
  replace e0 := e0.mv hag hle
  replace e1 := e1.mv hag hle
  replace ee1 := ee1.mv hag hle
  refine lv_aload_n hx hb dX13_window_22 rfl (lv_at hl 0 rfl) ?_
  obtain ⟨r7, h7c, hF⟩ := dx_b1_some hF
  refine cl_cFi (va_runF (V.2.1.1 14 _ rfl).2 (As := []) S (cm_X16_most l D dA _ A bb1 r1  (cl_nw σ0 14 0) _ ee1 h7c) (va_cwF 0 hts (lw_F q1020 q1023 q1025 q111 q1027) rfl rfl rfl (V.1.2.1 _ cf_Told_most) (by decide +kernel) ⟨Nat.le_of_ble_eq_true rfl, Nat.le_of_ble_eq_true rfl⟩) (cl_preV V [] ee1 k5 rfl (by decide)) rfl rfl hl.1 rfl (lv_room (Nat.le_of_ble_eq_true rfl)) dX13_window_23 ⟨Nat.le_of_ble_eq_true rfl, Nat.le_of_ble_eq_true rfl⟩) V (fun ad _ _ hag hle V => ?_)
  replace ee3 := ee3.mv hag hle
  replace e0 := e0.mv hag hle
  replace e1 := e1.mv hag hle
  replace ee1 := ee1.mv hag hle
  refine lv_iconst (v := 1) hx hb dX13_window_28 (by decide) ?_
  refine lv_isub hx hb dX13_window_29 ?_
  refine va_mmax hx hb (by rw [hl.1]; exact S.2.2.1) hown (hts _ q1028) (hts _ q677) (hts _ q100) (hts _ q678) (Nat.le_of_ble_eq_true rfl) (Nat.le_of_ble_eq_true rfl) (Nat.le_of_ble_eq_true rfl) (Nat.le_of_ble_eq_true rfl) dX13_window_30 ?_
  obtain ⟨σ8, h8c, hF⟩ := dx_b1_some hF
  refine cl_cv (va_runI (As := [.int r4, .int (if r6 < (r7 - (1 : Int32)) then (r7 - (1 : Int32)) else r6)]) S (cm_X16_init l D dA _ A bb3 (cl_n σ0 + 1) r4 (if r6 < (r7 - (1 : Int32)) then (r7 - (1 : Int32)) else r6) (cl_nw σ0 14 0) _ ee3 h8c) (cwI 2 hts (lw_meth q990) rfl rfl rfl (hts _ q111) (hts _ q1029) (hts _ q989) rfl cd_X16_init ⟨Nat.le_of_ble_eq_true rfl, Nat.le_of_ble_eq_true rfl⟩) (cl_preS V [.ref bb3, .int r4, .int (if r6 < (r7 - (1 : Int32)) then (r7 - (1 : Int32)) else r6)]) rfl rfl hl.1 rfl (lv_room (Nat.le_of_ble_eq_true rfl)) dX13_window_33 ⟨Nat.le_of_ble_eq_true rfl, Nat.le_of_ble_eq_true rfl⟩) V (fun ad _ _ hag hle V => ?_)
  replace ee3 := ee3.mv hag hle
  replace e0 := e0.mv hag hle
  replace e1 := e1.mv hag hle
  replace ee1 := ee1.mv hag hle
  refine W.widen (k := 1) (n := 2) (by first | omega | (dsimp only; omega)) (by first | omega | (dsimp only; omega)) ?_
  obtain ⟨hF1, hF2⟩ := dx_r2 hF
  subst hF1
  subst hF2
  exact cl_rr S V hr (Or.inl ⟨_, rfl⟩) hlocks ee3 dX13_window_36
theorem cd_X14_window : yX14_window.cls ≠ "java/lang/invoke/MethodHandle" ∧ yX14_window.cls ≠ "java/lang/invoke/VarHandle" ∧ (parseMethodDescriptor yX14_window.desc).map (fun d => d.parameters.length) = some 1 := by decide +kernel
set_option maxHeartbeats 4000000 in
set_option maxRecDepth 100000 in
theorem cm_X14_window (l : Launch) (D : va_G) (dA : Nat → ClassId) (ad0 : Nat → Nat) (A : Nat → Prop) (a0 : Nat) (a1 : Nat) (o0 : Nat) (o1 : Nat)  (σ0 : cl_S) (r : Nat) (e0 : cl_at ad0 σ0 a0 o0) (e1 : cl_at ad0 σ0 a1 o1) (hF : cl_X14_window o0 o1 σ0 = some r) : cl_Cr l yX14_window cX14_window 2 (.object "DatedContacts$Window") ({ frames := 0, cells := 0, slots := 0, locals := 0 }) D dA ad0 A [.ref a0, .ref a1] σ0 r σ0 := by
  refine cl_in RX14 rfl (by decide) (Nat.le_of_ble_eq_true rfl) ?_
  intro p e s m below meth c ls S hr hlocks hini hv hl
  have hx := S.1
  have hb := S.2.1
  have hown := S.2.2.2.1
  have hts := S.2.2.2.2
  obtain ⟨hN, hK, hP, hD, hA, hZ⟩ := hv
  have V : cl_V D dA (ad0, cl_n σ0) ad0 A s.heap σ0 s s.heap [] := ⟨hN, hK, hP, hD, va_S.rf, hA, hZ, fun _ _ => rfl, Nat.le_refl _⟩
  obtain ⟨ad, V, e0, e1⟩ : ∃ ad, cl_V D dA (ad0, cl_n σ0) ad A s.heap σ0 s s.heap [] ∧ cl_at ad σ0 a0 o0 ∧ cl_at ad σ0 a1 o1 := ⟨ad0, V, e0, e1⟩
  replace hl : lv_has ls 2 [(0, .ref a0), (1, .ref a1)] := hl
  unfold cl_X14_window at hF
  refine lv_null hx hb dX14_window_0 ?_
  replace hF := Option.some.inj hF
  subst hF
  exact cl_rrn S V hr (Or.inl ⟨_, rfl⟩) hlocks dX14_window_1
set_option maxHeartbeats 4000000 in
set_option maxRecDepth 100000 in
theorem cl_dr_window {p : Program} {l : Launch} {e : Env} {R : Room} {s : State} {m : MethodId} {args : Array Value} {below : List Frame} {meth : Method} {c : Code} {H : Heap} {locs : List Loc} {cells slots : Nat} {cc : ByteArray} {nL pc : Nat} {ls : Array Slot} {rest : List Value} {D : va_G} {dA : Nat → ClassId} {B : (Nat → Nat) × Nat} {ad : Nat → Nat} {A : Nat → Prop} {H0 : Heap} {σ0 : cl_S} {own : String} {index : Nat} (S : CallFix p m c cc nL s args lw_all own) (V : cl_V D dA B ad A H0 σ0 s H locs) {a0 o0 : Nat} (e0 : cl_at ad σ0 a0 o0) {a1 o1 : Nat} (e1 : cl_at ad σ0 a1 o1) (hlink : Cond.methodLink own index ⟨"DatedContacts$Person", "window", "(LDatedContacts$Window;)LDatedContacts$Window;"⟩ ∈ lw_all) {r : Nat} {σ' : cl_S} (hF : cl_dP_window o0 o1 σ0 = some (r, σ')) (hR : 3 ≤ R.frames ∧ 64 ≤ R.locals) (hsz : ls.size = nL) (hW : (rest.map fun v => v.category).sum ≤ 8) (hdg : decode cc pc = .ok (.invokevirtual index, 3)) (hf : cells + 1 ≤ R.cells ∧ slots + 2 ≤ R.slots) : va_Run p l e R s m args below meth c H locs cells slots 1 2 (F0 m pc ls ([.ref a1].reverse ++ .ref a0 :: rest)) rest (cl_Qr D dA ad A σ0 σ' r ((.ref a0 :: [.ref a1] : List Value)).toArray) A := by
  unfold cl_dP_window at hF
  by_cases hk : cl_k σ0 o0 = 9
  · replace hF := (if_pos hk).symm.trans hF
    obtain ⟨r1, h1, hF⟩ := dx_b1_some hF
    obtain ⟨hF1, hF2⟩ := dx_r2 hF
    subst hF1
    subst hF2
    exact va_Run.wd (va_runU (As := [.ref a1]) S (cm_X10_window l D dA _ A a0 a1 o0 o1 σ0 _ e0 e1 h1) (va_cwA (owner := "DatedContacts$Person") 1 S.2.2.2.2 (lw_U hlink q1001 q1040 q1000 q105 q1045) rfl rfl rfl (V.1.1 _ cn_q1007) (by decide +kernel) ⟨Nat.le_trans (Nat.le_of_ble_eq_true rfl) hR.1, Nat.le_trans (Nat.le_of_ble_eq_true rfl) hR.2⟩) (cl_preV V [.ref a1] e0 hk rfl (by decide)) rfl rfl hsz rfl (lv_room hW) hdg ⟨Nat.le_trans (Nat.add_le_add_left (Nat.le_of_ble_eq_true rfl) _) hf.1, Nat.le_trans (Nat.add_le_add_left (Nat.le_of_ble_eq_true rfl) _) hf.2⟩) (Nat.le_of_ble_eq_true rfl) (Nat.le_of_ble_eq_true rfl)
  replace hF := (if_neg hk).symm.trans hF
  clear hk
  by_cases hk : cl_k σ0 o0 = 10
  · replace hF := (if_pos hk).symm.trans hF
    exact va_Run.wd (va_runU (As := [.ref a1]) S (cm_X12_window l D dA _ A a0 a1 o0 o1 σ0 _ _ e0 e1 hF) (va_cwA (owner := "DatedContacts$Person") 1 S.2.2.2.2 (lw_U hlink q1001 q1030 q1031 q107 q1032) rfl rfl rfl (V.1.1 _ cn_q1007) (by decide +kernel) ⟨Nat.le_trans (Nat.le_of_ble_eq_true rfl) hR.1, Nat.le_trans (Nat.le_of_ble_eq_true rfl) hR.2⟩) (cl_preV V [.ref a1] e0 hk rfl (by decide)) rfl rfl hsz rfl (lv_room hW) hdg ⟨Nat.le_trans (Nat.add_le_add_left (Nat.le_of_ble_eq_true rfl) _) hf.1, Nat.le_trans (Nat.add_le_add_left (Nat.le_of_ble_eq_true rfl) _) hf.2⟩) (Nat.le_of_ble_eq_true rfl) (Nat.le_of_ble_eq_true rfl)
  replace hF := (if_neg hk).symm.trans hF
  clear hk
  by_cases hk : cl_k σ0 o0 = 11
  · replace hF := (if_pos hk).symm.trans hF
    exact va_Run.wd (va_runU (As := [.ref a1]) S (cm_X13_window l D dA _ A a0 a1 o0 o1 σ0 _ _ e0 e1 hF) (va_cwA (owner := "DatedContacts$Person") 1 S.2.2.2.2 (lw_U hlink q1001 q1002 q1003 q108 q1004) rfl rfl rfl (V.1.1 _ cn_q1007) (by decide +kernel) ⟨Nat.le_trans (Nat.le_of_ble_eq_true rfl) hR.1, Nat.le_trans (Nat.le_of_ble_eq_true rfl) hR.2⟩) (cl_preV V [.ref a1] e0 hk rfl (by decide)) rfl rfl hsz rfl (lv_room hW) hdg ⟨Nat.le_trans (Nat.add_le_add_left (Nat.le_of_ble_eq_true rfl) _) hf.1, Nat.le_trans (Nat.add_le_add_left (Nat.le_of_ble_eq_true rfl) _) hf.2⟩) (Nat.le_of_ble_eq_true rfl) (Nat.le_of_ble_eq_true rfl)
  replace hF := (if_neg hk).symm.trans hF
  clear hk
  by_cases hk : cl_k σ0 o0 = 12
  · replace hF := (if_pos hk).symm.trans hF
    obtain ⟨r1, h1, hF⟩ := dx_b1_some hF
    obtain ⟨hF1, hF2⟩ := dx_r2 hF
    subst hF1
    subst hF2
    exact va_Run.wd (va_runU (As := [.ref a1]) S (cm_X14_window l D dA _ A a0 a1 o0 o1 σ0 _ e0 e1 h1) (va_cwA (owner := "DatedContacts$Person") 1 S.2.2.2.2 (lw_U hlink q1001 q1044 q1042 q109 q1043) rfl rfl rfl (V.1.1 _ cn_q1007) (by decide +kernel) ⟨Nat.le_trans (Nat.le_of_ble_eq_true rfl) hR.1, Nat.le_trans (Nat.le_of_ble_eq_true rfl) hR.2⟩) (cl_preV V [.ref a1] e0 hk rfl (by decide)) rfl rfl hsz rfl (lv_room hW) hdg ⟨Nat.le_trans (Nat.add_le_add_left (Nat.le_of_ble_eq_true rfl) _) hf.1, Nat.le_trans (Nat.add_le_add_left (Nat.le_of_ble_eq_true rfl) _) hf.2⟩) (Nat.le_of_ble_eq_true rfl) (Nat.le_of_ble_eq_true rfl)
  replace hF := (if_neg hk).symm.trans hF
  clear hk
  by_cases hk : cl_k σ0 o0 = 13
  · replace hF := (if_pos hk).symm.trans hF
    obtain ⟨r1, h1, hF⟩ := dx_b1_some hF
    obtain ⟨hF1, hF2⟩ := dx_r2 hF
    subst hF1
    subst hF2
    exact va_Run.wd (va_runU (As := [.ref a1]) S (cm_X14_window l D dA _ A a0 a1 o0 o1 σ0 _ e0 e1 h1) (va_cwA (owner := "DatedContacts$Person") 1 S.2.2.2.2 (lw_U hlink q1001 q1041 q1042 q109 q1043) rfl rfl rfl (V.1.1 _ cn_q1007) (by decide +kernel) ⟨Nat.le_trans (Nat.le_of_ble_eq_true rfl) hR.1, Nat.le_trans (Nat.le_of_ble_eq_true rfl) hR.2⟩) (cl_preV V [.ref a1] e0 hk rfl (by decide)) rfl rfl hsz rfl (lv_room hW) hdg ⟨Nat.le_trans (Nat.add_le_add_left (Nat.le_of_ble_eq_true rfl) _) hf.1, Nat.le_trans (Nat.add_le_add_left (Nat.le_of_ble_eq_true rfl) _) hf.2⟩) (Nat.le_of_ble_eq_true rfl) (Nat.le_of_ble_eq_true rfl)
  replace hF := (if_neg hk).symm.trans hF
  clear hk
  cases hF
theorem cd_X2_stirred : yX2_stirred.cls ≠ "java/lang/invoke/MethodHandle" ∧ yX2_stirred.cls ≠ "java/lang/invoke/VarHandle" ∧ (parseMethodDescriptor yX2_stirred.desc).map (fun d => d.parameters.length) = some 0 := by decide +kernel
set_option maxHeartbeats 4000000 in
set_option maxRecDepth 100000 in
theorem cm_X2_stirred (l : Launch) (D : va_G) (dA : Nat → ClassId) (ad0 : Nat → Nat) (A : Nat → Prop) (a0 : Nat) (o0 : Nat)  (σ0 : cl_S) (r : Nat) (σ' : cl_S) (e0 : cl_at ad0 σ0 a0 o0) (hF : cl_X2_stirred o0 σ0 = some (r, σ')) : cl_Cr l yX2_stirred cX2_stirred 3 (.object "DatedContacts$Net") ({ frames := 3, cells := 11, slots := 22, locals := 64 }) D dA ad0 A [.ref a0] σ0 r σ' := by
  refine cl_in RX2 rfl (by decide) (Nat.le_of_ble_eq_true rfl) ?_
  intro p e s m below meth c ls S hr hlocks hini hv hl
  have hx := S.1
  have hb := S.2.1
  have hown := S.2.2.2.1
  have hts := S.2.2.2.2
  obtain ⟨hN, hK, hP, hD, hA, hZ⟩ := hv
  have V : cl_V D dA (ad0, cl_n σ0) ad0 A s.heap σ0 s s.heap [] := ⟨hN, hK, hP, hD, va_S.rf, hA, hZ, fun _ _ => rfl, Nat.le_refl _⟩
  obtain ⟨ad, V, e0⟩ : ∃ ad, cl_V D dA (ad0, cl_n σ0) ad A s.heap σ0 s s.heap [] ∧ cl_at ad σ0 a0 o0 := ⟨ad0, V, e0⟩
  replace hl : lv_has ls 3 [(0, .ref a0)] := hl
  unfold cl_X2_stirred at hF
  have hL18 : ∀ (v1 : Nat) (n : Nat) (v2 : Int32) (σ : cl_S) (ad : Nat → Nat) (b1 : Nat) (hn : n ≤ 10) (H : Heap) (locs : List Loc) (ls : Array Slot), dx_lp (fun x => cl_X2_stirred_L18 o0 x.2 v1 x.1) n (v2, σ) = some (r, σ') → cl_at ad σ a0 o0 → cl_at ad σ b1 v1 → cl_V D dA (ad0, cl_n σ0) ad A s.heap σ s H locs → lv_has ls 3 [(0, .ref a0), (1, .ref b1), (2, .int v2)] → W p l e ({ frames := 3, cells := 11, slots := 22, locals := 64 }) s m ([.ref a0] : List Value).toArray below meth c H locs (1 + 1 * (10 - n)) (2 + 2 * (10 - n)) (MQ below (cl_Qr D dA ad0 A σ0 σ' r) ([.ref a0] : List Value).toArray s 11 22 A) (F0 m 18 ls []) := by
    intro v1 n
    induction n with
    | zero =>
      intro v2 σ ad b1 hn H locs ls hF e0 e1 V hl
      exact (dx_lp_0 hF).elim
    | succ n ih18 =>
      intro v2 σ ad b1 hn H locs ls hF e0 e1 V hl
      obtain ⟨y18, hF, hz18⟩ := dx_lp_s hF
      replace hF : cl_X2_stirred_L18 o0 σ v1 v2 = some y18 := hF
      unfold cl_X2_stirred_L18 at hF
      refine lv_iload_n hx hb dX2_stirred_18 rfl (lv_at hl 2 rfl) ?_
      refine lv_aload_n hx hb dX2_stirred_19 rfl (lv_at hl 0 rfl) ?_
      obtain ⟨hg, hF⟩ := dx_gd_some hF
      have k4 := of_decide_eq_true hg
      refine cl_gi S V e0 k4 rfl (by decide) in_X2 0 (by decide) rfl q150 rfl dX2_stirred_20 ?_
      refine lv_icmp_ge (tgt := 48) hx hb dX2_stirred_23 (by decide) (fun hc => ?_) (fun hc => ?_)
      · replace hF := (if_pos hc).symm.trans hF
        replace hF := dx_ex_k hF hz18
        refine W.widen (k := 11) (n := 22) (by first | omega | (dsimp only; omega)) (by first | omega | (dsimp only; omega)) ?_
        refine lv_aload_n hx hb dX2_stirred_48 rfl (lv_at hl 0 rfl) ?_
        refine W.widen (k := 11) (n := 22) (by first | omega | (dsimp only; omega)) (by first | omega | (dsimp only; omega)) ?_
        obtain ⟨hF1, hF2⟩ := dx_r2 hF
        subst hF1
        subst hF2
        exact cl_rr S V hr (Or.inl ⟨_, rfl⟩) hlocks e0 dX2_stirred_49
      · replace hF := (if_neg hc).symm.trans hF
        refine lv_aload_n hx hb dX2_stirred_26 rfl (lv_at hl 0 rfl) ?_
        obtain ⟨hg, hF⟩ := dx_gd_some hF
        refine cl_gr S V e0 k4 rfl (by decide) in_X2 9 (by decide) rfl q184 rfl dX2_stirred_27 (of_decide_eq_true hg) (fun bb5 ee5 => ?_)
        refine lv_iload_n hx hb dX2_stirred_30 rfl (lv_at hl 2 rfl) ?_
        refine lv_aload_n hx hb dX2_stirred_31 rfl (lv_at hl 0 rfl) ?_
        obtain ⟨hg, hF⟩ := dx_gd_some hF
        refine cl_gr S V e0 k4 rfl (by decide) in_X2 4 (by decide) rfl q164 rfl dX2_stirred_32 (of_decide_eq_true hg) (fun bb6 ee6 => ?_)
        refine lv_iload_n hx hb dX2_stirred_35 rfl (lv_at hl 2 rfl) ?_
        obtain ⟨hg, hF⟩ := dx_gd_some hF
        have k7 := of_decide_eq_true hg
        obtain ⟨hi8, hF⟩ := dx_gd_some hF
        obtain ⟨hg, hF⟩ := dx_gd_some hF
        refine cl_lr 4 25 S V ee6 k7 (by decide) rfl (dx_inb_in hi8) dX2_stirred_36 (of_decide_eq_true hg) (fun bb9 ee9 => ?_)
        refine lv_aload_n hx hb dX2_stirred_37 rfl (lv_at hl 1 rfl) ?_
        obtain ⟨r10, σ10, h10c, hF⟩ := dx_b2_some hF
        by_cases h0 : r10 = 0
        · replace hF := (if_pos h0).symm.trans hF
          refine cl_crn (cl_dr_window S V ee9 e1 q999 h10c ⟨Nat.le_of_ble_eq_true rfl, Nat.le_of_ble_eq_true rfl⟩ hl.1 (Nat.le_of_ble_eq_true rfl) dX2_stirred_38 ⟨by show _ ≤ 11; first | omega | (dsimp only; omega), by show _ ≤ 22; first | omega | (dsimp only; omega)⟩) V h0 (fun ad _ _ hag hle V => ?_)
          replace ee5 := ee5.mv hag hle
          replace e0 := e0.mv hag hle
          replace e1 := e1.mv hag hle
          obtain ⟨hg, hF⟩ := dx_gd_some hF
          have k11 := of_decide_eq_true hg
          obtain ⟨hi12, hF⟩ := dx_gd_some hF
          refine cl_san 5 26 S V ee5 k11 (by decide) rfl (dx_inb_in hi12) dX2_stirred_41 (fun _ _ V => ?_)
          refine lv_iinc (v := (v2 + (1 : Int32))) (lv' := [(2, .int (v2 + (1 : Int32))), (0, .ref a0), (1, .ref b1)]) hx hb dX2_stirred_42 hl (k := 2) rfl rfl (by decide) rfl (fun ls hl => ?_)
          refine lv_goto (tgt := 18) hx hb dX2_stirred_45 (by decide) ?_
          refine W.widen (k := 1 + 1 * (10 - n)) (n := 2 + 2 * (10 - n)) (by first | omega | (dsimp only; omega)) (by first | omega | (dsimp only; omega)) ?_
          replace hF := Option.some.inj hF
          subst hF
          exact ih18 (v2 + (1 : Int32)) (cl_wr σ10 (cl_r σ o0 9) v2.toNatClampNeg 0) _ _ (by omega) _ _ _ (dx_lk_l hz18) e0 e1 V (lv_sub hl [1, 2, 0] rfl)
        · replace hF := (if_neg h0).symm.trans hF
          refine cl_cr (cl_dr_window S V ee9 e1 q999 h10c ⟨Nat.le_of_ble_eq_true rfl, Nat.le_of_ble_eq_true rfl⟩ hl.1 (Nat.le_of_ble_eq_true rfl) dX2_stirred_38 ⟨by show _ ≤ 11; first | omega | (dsimp only; omega), by show _ ≤ 22; first | omega | (dsimp only; omega)⟩) V h0 (fun bb10 ad _ _ hag hle ee10 V => ?_)
          replace ee5 := ee5.mv hag hle
          replace e0 := e0.mv hag hle
          replace e1 := e1.mv hag hle
          obtain ⟨hg, hF⟩ := dx_gd_some hF
          have k13 := of_decide_eq_true hg
          obtain ⟨hi14, hF⟩ := dx_gd_some hF
          obtain ⟨hg, hF⟩ := dx_gd_some hF
          have k15 := of_decide_eq_true hg
          refine cl_sa 5 26 S V ee5 k13 (by decide) rfl (dx_inb_in hi14) ee10 (cl_any V ee10 k15 rfl (by decide) cn_q1013) dX2_stirred_41 (fun _ _ V => ?_)
          obtain ⟨σ16, eσ16⟩ : ∃ x, x = (cl_wr σ10 (cl_r σ o0 9) v2.toNatClampNeg r10) := ⟨_, rfl⟩
          rw [← eσ16] at V
          replace hF := dx_let_e eσ16 hF
          replace e0 : cl_at ad σ16 a0 o0 := by rw [eσ16]; exact e0
          replace e1 : cl_at ad σ16 b1 v1 := by rw [eσ16]; exact e1
          replace k13 : cl_k σ16 (cl_r σ o0 9) = 26 := by rw [eσ16]; exact k13
          replace k15 : cl_k σ16 r10 = 14 := by rw [eσ16]; exact k15
          refine lv_iinc (v := (v2 + (1 : Int32))) (lv' := [(2, .int (v2 + (1 : Int32))), (0, .ref a0), (1, .ref b1)]) hx hb dX2_stirred_42 hl (k := 2) rfl rfl (by decide) rfl (fun ls hl => ?_)
          refine lv_goto (tgt := 18) hx hb dX2_stirred_45 (by decide) ?_
          refine W.widen (k := 1 + 1 * (10 - n)) (n := 2 + 2 * (10 - n)) (by first | omega | (dsimp only; omega)) (by first | omega | (dsimp only; omega)) ?_
          replace hF := Option.some.inj hF
          subst hF
          exact ih18 (v2 + (1 : Int32)) σ16 _ _ (by omega) _ _ _ (dx_lk_l hz18) e0 e1 V (lv_sub hl [1, 2, 0] rfl)
  refine cl_new S V rfl (by decide) in_X16 tyX16 tyX16_ok cl_dfX16 q986 q987 q111 (Nat.le_of_ble_eq_true rfl) (Nat.le_of_ble_eq_true rfl) dX2_stirred_0 (fun bb1 ad _ hag ee1 V => ?_)
  replace e0 := cl_at.nw 14 0 e0 hag
  have k1 : cl_k (cl_nw σ0 14 0) (cl_n σ0 + 1) = 14 := cl_k_nw
  refine lv_dup hx hb dX2_stirred_3 rfl ?_
  refine lv_aload_n hx hb dX2_stirred_4 rfl (lv_at hl 0 rfl) ?_
  obtain ⟨hg, hF⟩ := dx_gd_some hF
  have k2 := of_decide_eq_true hg
  refine cl_gi S V e0 k2 rfl (by decide) in_X2 2 (by decide) rfl q158 rfl dX2_stirred_5 ?_
  refine lv_aload_n hx hb dX2_stirred_8 rfl (lv_at hl 0 rfl) ?_
  refine cl_gi S V e0 k2 rfl (by decide) in_X2 3 (by decide) rfl q161 rfl dX2_stirred_9 ?_
  obtain ⟨σ3, h3c, hF⟩ := dx_b1_some hF
  refine cl_cv (va_runI (As := [.int (cl_i (cl_nw σ0 14 0) o0 2), .int (cl_i (cl_nw σ0 14 0) o0 3)]) S (cm_X16_init l D dA _ A bb1 (cl_n σ0 + 1) (cl_i (cl_nw σ0 14 0) o0 2) (cl_i (cl_nw σ0 14 0) o0 3) (cl_nw σ0 14 0) _ ee1 h3c) (cwI 2 hts (lw_meth q990) rfl rfl rfl (hts _ q111) (hts _ q988) (hts _ q989) rfl cd_X16_init ⟨Nat.le_of_ble_eq_true rfl, Nat.le_of_ble_eq_true rfl⟩) (cl_preS V [.ref bb1, .int (cl_i (cl_nw σ0 14 0) o0 2), .int (cl_i (cl_nw σ0 14 0) o0 3)]) rfl rfl hl.1 rfl (lv_room (Nat.le_of_ble_eq_true rfl)) dX2_stirred_12 ⟨Nat.le_of_ble_eq_true rfl, Nat.le_of_ble_eq_true rfl⟩) V (fun ad _ _ hag hle V => ?_)
  replace ee1 := ee1.mv hag hle
  replace e0 := e0.mv hag hle
  refine lv_astore_n (lv' := [(1, .ref bb1), (0, .ref a0)]) hx hb dX2_stirred_15 rfl hl (by decide) rfl (fun ls hl => ?_)
  refine lv_iconst (v := 0) hx hb dX2_stirred_16 (by decide) ?_
  refine lv_istore_n (lv' := [(2, .int (0 : Int32)), (1, .ref bb1), (0, .ref a0)]) hx hb dX2_stirred_17 rfl hl (by decide) rfl (fun ls hl => ?_)
  refine W.widen (k := 1 + 1 * (10 - 10)) (n := 2 + 2 * (10 - 10)) (by first | omega | (dsimp only; omega)) (by first | omega | (dsimp only; omega)) ?_
  exact hL18 (cl_n σ0 + 1) 10 (0 : Int32) σ3 _ _ (by omega) _ _ _ hF e0 ee1 V (lv_sub hl [2, 1, 0] rfl)
theorem cd_X2_become : yX2_become.cls ≠ "java/lang/invoke/MethodHandle" ∧ yX2_become.cls ≠ "java/lang/invoke/VarHandle" ∧ (parseMethodDescriptor yX2_become.desc).map (fun d => d.parameters.length) = some 1 := by decide +kernel
set_option maxHeartbeats 4000000 in
set_option maxRecDepth 100000 in
theorem cm_X2_become (l : Launch) (D : va_G) (dA : Nat → ClassId) (ad0 : Nat → Nat) (A : Nat → Prop) (a0 : Nat) (a1 : Nat) (o0 : Nat) (o1 : Nat)  (σ0 : cl_S) (r : Nat) (σ' : cl_S) (e0 : cl_at ad0 σ0 a0 o0) (e1 : cl_at ad0 σ0 a1 o1) (hF : cl_X2_become o0 o1 σ0 = some (r, σ')) : cl_Cr l yX2_become cX2_become 2 (.object "DatedContacts$Net") ({ frames := 1, cells := 0, slots := 0, locals := 26 }) D dA ad0 A [.ref a0, .ref a1] σ0 r σ' := by
  refine cl_in RX2 rfl (by decide) (Nat.le_of_ble_eq_true rfl) ?_
  intro p e s m below meth c ls S hr hlocks hini hv hl
  have hx := S.1
  have hb := S.2.1
  have hown := S.2.2.2.1
  have hts := S.2.2.2.2
  obtain ⟨hN, hK, hP, hD, hA, hZ⟩ := hv
  have V : cl_V D dA (ad0, cl_n σ0) ad0 A s.heap σ0 s s.heap [] := ⟨hN, hK, hP, hD, va_S.rf, hA, hZ, fun _ _ => rfl, Nat.le_refl _⟩
  obtain ⟨ad, V, e0, e1⟩ : ∃ ad, cl_V D dA (ad0, cl_n σ0) ad A s.heap σ0 s s.heap [] ∧ cl_at ad σ0 a0 o0 ∧ cl_at ad σ0 a1 o1 := ⟨ad0, V, e0, e1⟩
  replace hl : lv_has ls 2 [(0, .ref a0), (1, .ref a1)] := hl
  unfold cl_X2_become at hF
  refine lv_aload_n hx hb dX2_become_0 rfl (lv_at hl 0 rfl) ?_
  refine lv_aload_n hx hb dX2_become_1 rfl (lv_at hl 1 rfl) ?_
  obtain ⟨hg, hF⟩ := dx_gd_some hF
  have k1 := of_decide_eq_true hg
  refine cl_gi S V e1 k1 rfl (by decide) in_X2 0 (by decide) rfl q150 rfl dX2_become_2 ?_
  obtain ⟨hg, hF⟩ := dx_gd_some hF
  have k2 := of_decide_eq_true hg
  refine cl_pi S V e0 k2 rfl (by decide) in_X2 tyX2 tyX2_ok nmX2 0 (by decide) rfl q150 rfl rfl rfl dX2_become_5 (fun _ _ V => ?_)
  refine lv_aload_n hx hb dX2_become_8 rfl (lv_at hl 0 rfl) ?_
  refine lv_aload_n hx hb dX2_become_9 rfl (lv_at hl 1 rfl) ?_
  refine cl_gi S V e1 k1 rfl (by decide) in_X2 1 (by decide) rfl q153 rfl dX2_become_10 ?_
  refine cl_pi S V e0 k2 rfl (by decide) in_X2 tyX2 tyX2_ok nmX2 1 (by decide) rfl q153 rfl rfl rfl dX2_become_13 (fun _ _ V => ?_)
  obtain ⟨σ3, eσ3⟩ : ∃ x, x = (cl_wi (cl_wi σ0 o0 0 (cl_i σ0 o1 0)) o0 1 (cl_i (cl_wi σ0 o0 0 (cl_i σ0 o1 0)) o1 1)) := ⟨_, rfl⟩
  rw [← eσ3] at V
  replace hF := dx_let_e eσ3 hF
  replace e0 : cl_at ad σ3 a0 o0 := by rw [eσ3]; exact e0
  replace e1 : cl_at ad σ3 a1 o1 := by rw [eσ3]; exact e1
  replace k1 : cl_k σ3 o1 = 2 := by rw [eσ3]; exact k1
  replace k2 : cl_k σ3 o0 = 2 := by rw [eσ3]; exact k2
  refine lv_aload_n hx hb dX2_become_16 rfl (lv_at hl 0 rfl) ?_
  refine lv_aload_n hx hb dX2_become_17 rfl (lv_at hl 1 rfl) ?_
  refine cl_gi S V e1 k1 rfl (by decide) in_X2 2 (by decide) rfl q158 rfl dX2_become_18 ?_
  refine cl_pi S V e0 k2 rfl (by decide) in_X2 tyX2 tyX2_ok nmX2 2 (by decide) rfl q158 rfl rfl rfl dX2_become_21 (fun _ _ V => ?_)
  refine lv_aload_n hx hb dX2_become_24 rfl (lv_at hl 0 rfl) ?_
  refine lv_aload_n hx hb dX2_become_25 rfl (lv_at hl 1 rfl) ?_
  refine cl_gi S V e1 k1 rfl (by decide) in_X2 3 (by decide) rfl q161 rfl dX2_become_26 ?_
  refine cl_pi S V e0 k2 rfl (by decide) in_X2 tyX2 tyX2_ok nmX2 3 (by decide) rfl q161 rfl rfl rfl dX2_become_29 (fun _ _ V => ?_)
  obtain ⟨σ4, eσ4⟩ : ∃ x, x = (cl_wi (cl_wi σ3 o0 2 (cl_i σ3 o1 2)) o0 3 (cl_i (cl_wi σ3 o0 2 (cl_i σ3 o1 2)) o1 3)) := ⟨_, rfl⟩
  rw [← eσ4] at V
  replace hF := dx_let_e eσ4 hF
  replace e0 : cl_at ad σ4 a0 o0 := by rw [eσ4]; exact e0
  replace e1 : cl_at ad σ4 a1 o1 := by rw [eσ4]; exact e1
  replace k1 : cl_k σ4 o1 = 2 := by rw [eσ4]; exact k1
  replace k2 : cl_k σ4 o0 = 2 := by rw [eσ4]; exact k2
  refine lv_aload_n hx hb dX2_become_32 rfl (lv_at hl 1 rfl) ?_
  obtain ⟨hg, hF⟩ := dx_gd_some hF
  refine cl_gr S V e1 k1 rfl (by decide) in_X2 4 (by decide) rfl q164 rfl dX2_become_33 (of_decide_eq_true hg) (fun bb5 ee5 => ?_)
  refine lv_iconst (v := 0) hx hb dX2_become_36 (by decide) ?_
  refine lv_aload_n hx hb dX2_become_37 rfl (lv_at hl 0 rfl) ?_
  obtain ⟨hg, hF⟩ := dx_gd_some hF
  refine cl_gr S V e0 k2 rfl (by decide) in_X2 4 (by decide) rfl q164 rfl dX2_become_38 (of_decide_eq_true hg) (fun bb6 ee6 => ?_)
  refine lv_iconst (v := 0) hx hb dX2_become_41 (by decide) ?_
  refine lv_bipush (v := 9) hx hb dX2_become_42 (by decide) ?_
  obtain ⟨hg, hF⟩ := dx_gd_some hF
  have k7 := of_decide_eq_true hg
  obtain ⟨hg, hF⟩ := dx_gd_some hF
  have k8 := of_decide_eq_true hg
  obtain ⟨hg, hF⟩ := dx_gd_some hF
  replace hg := of_decide_eq_true hg
  refine cl_cpr 4 25 S V ee5 k7 ee6 k8 (by decide) rfl hl.1 q1050 q500 q499 q93 (n := 9) hg.1 hg.2.1 hg.2.2 (Nat.le_of_ble_eq_true rfl) (Nat.le_of_ble_eq_true rfl) dX2_become_44 (by decide) rfl (fun _ _ V => ?_)
  obtain ⟨σ9, eσ9⟩ : ∃ x, x = (cl_sr σ4 (cl_r σ4 o0 4) (va_cpy (cl_r σ4 (cl_r σ4 o1 4)) (cl_r σ4 (cl_r σ4 o0 4)) 0 0 9)) := ⟨_, rfl⟩
  rw [← eσ9] at V
  replace hF := dx_let_e eσ9 hF
  replace e0 : cl_at ad σ9 a0 o0 := by rw [eσ9]; exact e0
  replace e1 : cl_at ad σ9 a1 o1 := by rw [eσ9]; exact e1
  replace k1 : cl_k σ9 o1 = 2 := by rw [eσ9]; exact k1
  replace k2 : cl_k σ9 o0 = 2 := by rw [eσ9]; exact k2
  replace k7 : cl_k σ9 (cl_r σ4 o1 4) = 25 := by rw [eσ9]; exact k7
  replace k8 : cl_k σ9 (cl_r σ4 o0 4) = 25 := by rw [eσ9]; exact k8
  refine lv_aload_n hx hb dX2_become_47 rfl (lv_at hl 1 rfl) ?_
  obtain ⟨hg, hF⟩ := dx_gd_some hF
  refine cl_gr S V e1 k1 rfl (by decide) in_X2 5 (by decide) rfl q167 rfl dX2_become_48 (of_decide_eq_true hg) (fun bb10 ee10 => ?_)
  refine lv_iconst (v := 0) hx hb dX2_become_51 (by decide) ?_
  refine lv_aload_n hx hb dX2_become_52 rfl (lv_at hl 0 rfl) ?_
  obtain ⟨hg, hF⟩ := dx_gd_some hF
  refine cl_gr S V e0 k2 rfl (by decide) in_X2 5 (by decide) rfl q167 rfl dX2_become_53 (of_decide_eq_true hg) (fun bb11 ee11 => ?_)
  refine lv_iconst (v := 0) hx hb dX2_become_56 (by decide) ?_
  refine lv_bipush (v := 9) hx hb dX2_become_57 (by decide) ?_
  obtain ⟨hg, hF⟩ := dx_gd_some hF
  have k12 := of_decide_eq_true hg
  obtain ⟨hg, hF⟩ := dx_gd_some hF
  have k13 := of_decide_eq_true hg
  obtain ⟨hg, hF⟩ := dx_gd_some hF
  replace hg := of_decide_eq_true hg
  refine cl_cpi S V ee10 k12 ee11 k13 hl.1 q1050 q500 q499 q93 (n := 9) hg.1 hg.2 (Nat.le_of_ble_eq_true rfl) (Nat.le_of_ble_eq_true rfl) dX2_become_59 (by decide) rfl (fun _ _ V => ?_)
  obtain ⟨σ14, eσ14⟩ : ∃ x, x = (cl_si σ9 (cl_r σ9 o0 5) (va_cpy (cl_i σ9 (cl_r σ9 o1 5)) (cl_i σ9 (cl_r σ9 o0 5)) 0 0 9)) := ⟨_, rfl⟩
  rw [← eσ14] at V
  replace hF := dx_let_e eσ14 hF
  replace e0 : cl_at ad σ14 a0 o0 := by rw [eσ14]; exact e0
  replace e1 : cl_at ad σ14 a1 o1 := by rw [eσ14]; exact e1
  replace k1 : cl_k σ14 o1 = 2 := by rw [eσ14]; exact k1
  replace k2 : cl_k σ14 o0 = 2 := by rw [eσ14]; exact k2
  replace k7 : cl_k σ14 (cl_r σ4 o1 4) = 25 := by rw [eσ14]; exact k7
  replace k8 : cl_k σ14 (cl_r σ4 o0 4) = 25 := by rw [eσ14]; exact k8
  replace k12 : cl_k σ14 (cl_r σ9 o1 5) = 20 := by rw [eσ14]; exact k12
  replace k13 : cl_k σ14 (cl_r σ9 o0 5) = 20 := by rw [eσ14]; exact k13
  refine lv_aload_n hx hb dX2_become_62 rfl (lv_at hl 1 rfl) ?_
  obtain ⟨hg, hF⟩ := dx_gd_some hF
  refine cl_gr S V e1 k1 rfl (by decide) in_X2 6 (by decide) rfl q170 rfl dX2_become_63 (of_decide_eq_true hg) (fun bb15 ee15 => ?_)
  refine lv_iconst (v := 0) hx hb dX2_become_66 (by decide) ?_
  refine lv_aload_n hx hb dX2_become_67 rfl (lv_at hl 0 rfl) ?_
  obtain ⟨hg, hF⟩ := dx_gd_some hF
  refine cl_gr S V e0 k2 rfl (by decide) in_X2 6 (by decide) rfl q170 rfl dX2_become_68 (of_decide_eq_true hg) (fun bb16 ee16 => ?_)
  refine lv_iconst (v := 0) hx hb dX2_become_71 (by decide) ?_
  refine lv_bipush (v := 10) hx hb dX2_become_72 (by decide) ?_
  obtain ⟨hg, hF⟩ := dx_gd_some hF
  have k17 := of_decide_eq_true hg
  obtain ⟨hg, hF⟩ := dx_gd_some hF
  have k18 := of_decide_eq_true hg
  obtain ⟨hg, hF⟩ := dx_gd_some hF
  replace hg := of_decide_eq_true hg
  refine cl_cpi S V ee15 k17 ee16 k18 hl.1 q1050 q500 q499 q93 (n := 10) hg.1 hg.2 (Nat.le_of_ble_eq_true rfl) (Nat.le_of_ble_eq_true rfl) dX2_become_74 (by decide) rfl (fun _ _ V => ?_)
  obtain ⟨σ19, eσ19⟩ : ∃ x, x = (cl_si σ14 (cl_r σ14 o0 6) (va_cpy (cl_i σ14 (cl_r σ14 o1 6)) (cl_i σ14 (cl_r σ14 o0 6)) 0 0 10)) := ⟨_, rfl⟩
  rw [← eσ19] at V
  replace hF := dx_let_e eσ19 hF
  replace e0 : cl_at ad σ19 a0 o0 := by rw [eσ19]; exact e0
  replace e1 : cl_at ad σ19 a1 o1 := by rw [eσ19]; exact e1
  replace k1 : cl_k σ19 o1 = 2 := by rw [eσ19]; exact k1
  replace k2 : cl_k σ19 o0 = 2 := by rw [eσ19]; exact k2
  replace k7 : cl_k σ19 (cl_r σ4 o1 4) = 25 := by rw [eσ19]; exact k7
  replace k8 : cl_k σ19 (cl_r σ4 o0 4) = 25 := by rw [eσ19]; exact k8
  replace k12 : cl_k σ19 (cl_r σ9 o1 5) = 20 := by rw [eσ19]; exact k12
  replace k13 : cl_k σ19 (cl_r σ9 o0 5) = 20 := by rw [eσ19]; exact k13
  replace k17 : cl_k σ19 (cl_r σ14 o1 6) = 20 := by rw [eσ19]; exact k17
  replace k18 : cl_k σ19 (cl_r σ14 o0 6) = 20 := by rw [eσ19]; exact k18
  refine lv_aload_n hx hb dX2_become_77 rfl (lv_at hl 1 rfl) ?_
  obtain ⟨hg, hF⟩ := dx_gd_some hF
  refine cl_gr S V e1 k1 rfl (by decide) in_X2 7 (by decide) rfl q175 rfl dX2_become_78 (of_decide_eq_true hg) (fun bb20 ee20 => ?_)
  refine lv_iconst (v := 0) hx hb dX2_become_81 (by decide) ?_
  refine lv_aload_n hx hb dX2_become_82 rfl (lv_at hl 0 rfl) ?_
  obtain ⟨hg, hF⟩ := dx_gd_some hF
  refine cl_gr S V e0 k2 rfl (by decide) in_X2 7 (by decide) rfl q175 rfl dX2_become_83 (of_decide_eq_true hg) (fun bb21 ee21 => ?_)
  refine lv_iconst (v := 0) hx hb dX2_become_86 (by decide) ?_
  refine lv_bipush (v := 10) hx hb dX2_become_87 (by decide) ?_
  obtain ⟨hg, hF⟩ := dx_gd_some hF
  have k22 := of_decide_eq_true hg
  obtain ⟨hg, hF⟩ := dx_gd_some hF
  have k23 := of_decide_eq_true hg
  obtain ⟨hg, hF⟩ := dx_gd_some hF
  replace hg := of_decide_eq_true hg
  refine cl_cpi S V ee20 k22 ee21 k23 hl.1 q1050 q500 q499 q93 (n := 10) hg.1 hg.2 (Nat.le_of_ble_eq_true rfl) (Nat.le_of_ble_eq_true rfl) dX2_become_89 (by decide) rfl (fun _ _ V => ?_)
  obtain ⟨σ24, eσ24⟩ : ∃ x, x = (cl_si σ19 (cl_r σ19 o0 7) (va_cpy (cl_i σ19 (cl_r σ19 o1 7)) (cl_i σ19 (cl_r σ19 o0 7)) 0 0 10)) := ⟨_, rfl⟩
  rw [← eσ24] at V
  replace hF := dx_let_e eσ24 hF
  replace e0 : cl_at ad σ24 a0 o0 := by rw [eσ24]; exact e0
  replace e1 : cl_at ad σ24 a1 o1 := by rw [eσ24]; exact e1
  replace k1 : cl_k σ24 o1 = 2 := by rw [eσ24]; exact k1
  replace k2 : cl_k σ24 o0 = 2 := by rw [eσ24]; exact k2
  replace k7 : cl_k σ24 (cl_r σ4 o1 4) = 25 := by rw [eσ24]; exact k7
  replace k8 : cl_k σ24 (cl_r σ4 o0 4) = 25 := by rw [eσ24]; exact k8
  replace k12 : cl_k σ24 (cl_r σ9 o1 5) = 20 := by rw [eσ24]; exact k12
  replace k13 : cl_k σ24 (cl_r σ9 o0 5) = 20 := by rw [eσ24]; exact k13
  replace k17 : cl_k σ24 (cl_r σ14 o1 6) = 20 := by rw [eσ24]; exact k17
  replace k18 : cl_k σ24 (cl_r σ14 o0 6) = 20 := by rw [eσ24]; exact k18
  replace k22 : cl_k σ24 (cl_r σ19 o1 7) = 20 := by rw [eσ24]; exact k22
  replace k23 : cl_k σ24 (cl_r σ19 o0 7) = 20 := by rw [eσ24]; exact k23
  refine lv_aload_n hx hb dX2_become_92 rfl (lv_at hl 1 rfl) ?_
  obtain ⟨hg, hF⟩ := dx_gd_some hF
  refine cl_gr S V e1 k1 rfl (by decide) in_X2 8 (by decide) rfl q179 rfl dX2_become_93 (of_decide_eq_true hg) (fun bb25 ee25 => ?_)
  refine lv_iconst (v := 0) hx hb dX2_become_96 (by decide) ?_
  refine lv_aload_n hx hb dX2_become_97 rfl (lv_at hl 0 rfl) ?_
  obtain ⟨hg, hF⟩ := dx_gd_some hF
  refine cl_gr S V e0 k2 rfl (by decide) in_X2 8 (by decide) rfl q179 rfl dX2_become_98 (of_decide_eq_true hg) (fun bb26 ee26 => ?_)
  refine lv_iconst (v := 0) hx hb dX2_become_101 (by decide) ?_
  refine lv_bipush (v := 10) hx hb dX2_become_102 (by decide) ?_
  obtain ⟨hg, hF⟩ := dx_gd_some hF
  have k27 := of_decide_eq_true hg
  obtain ⟨hg, hF⟩ := dx_gd_some hF
  have k28 := of_decide_eq_true hg
  obtain ⟨hg, hF⟩ := dx_gd_some hF
  replace hg := of_decide_eq_true hg
  refine cl_cpi S V ee25 k27 ee26 k28 hl.1 q1050 q500 q499 q93 (n := 10) hg.1 hg.2 (Nat.le_of_ble_eq_true rfl) (Nat.le_of_ble_eq_true rfl) dX2_become_104 (by decide) rfl (fun _ _ V => ?_)
  obtain ⟨σ29, eσ29⟩ : ∃ x, x = (cl_si σ24 (cl_r σ24 o0 8) (va_cpy (cl_i σ24 (cl_r σ24 o1 8)) (cl_i σ24 (cl_r σ24 o0 8)) 0 0 10)) := ⟨_, rfl⟩
  rw [← eσ29] at V
  replace hF := dx_let_e eσ29 hF
  replace e0 : cl_at ad σ29 a0 o0 := by rw [eσ29]; exact e0
  replace e1 : cl_at ad σ29 a1 o1 := by rw [eσ29]; exact e1
  replace k1 : cl_k σ29 o1 = 2 := by rw [eσ29]; exact k1
  replace k2 : cl_k σ29 o0 = 2 := by rw [eσ29]; exact k2
  replace k7 : cl_k σ29 (cl_r σ4 o1 4) = 25 := by rw [eσ29]; exact k7
  replace k8 : cl_k σ29 (cl_r σ4 o0 4) = 25 := by rw [eσ29]; exact k8
  replace k12 : cl_k σ29 (cl_r σ9 o1 5) = 20 := by rw [eσ29]; exact k12
  replace k13 : cl_k σ29 (cl_r σ9 o0 5) = 20 := by rw [eσ29]; exact k13
  replace k17 : cl_k σ29 (cl_r σ14 o1 6) = 20 := by rw [eσ29]; exact k17
  replace k18 : cl_k σ29 (cl_r σ14 o0 6) = 20 := by rw [eσ29]; exact k18
  replace k22 : cl_k σ29 (cl_r σ19 o1 7) = 20 := by rw [eσ29]; exact k22
  replace k23 : cl_k σ29 (cl_r σ19 o0 7) = 20 := by rw [eσ29]; exact k23
  replace k27 : cl_k σ29 (cl_r σ24 o1 8) = 20 := by rw [eσ29]; exact k27
  replace k28 : cl_k σ29 (cl_r σ24 o0 8) = 20 := by rw [eσ29]; exact k28
  refine lv_aload_n hx hb dX2_become_107 rfl (lv_at hl 1 rfl) ?_
  obtain ⟨hg, hF⟩ := dx_gd_some hF
  refine cl_gr S V e1 k1 rfl (by decide) in_X2 9 (by decide) rfl q184 rfl dX2_become_108 (of_decide_eq_true hg) (fun bb30 ee30 => ?_)
  refine lv_iconst (v := 0) hx hb dX2_become_111 (by decide) ?_
  refine lv_aload_n hx hb dX2_become_112 rfl (lv_at hl 0 rfl) ?_
  obtain ⟨hg, hF⟩ := dx_gd_some hF
  refine cl_gr S V e0 k2 rfl (by decide) in_X2 9 (by decide) rfl q184 rfl dX2_become_113 (of_decide_eq_true hg) (fun bb31 ee31 => ?_)
  refine lv_iconst (v := 0) hx hb dX2_become_116 (by decide) ?_
  refine lv_bipush (v := 9) hx hb dX2_become_117 (by decide) ?_
  obtain ⟨hg, hF⟩ := dx_gd_some hF
  have k32 := of_decide_eq_true hg
  obtain ⟨hg, hF⟩ := dx_gd_some hF
  have k33 := of_decide_eq_true hg
  obtain ⟨hg, hF⟩ := dx_gd_some hF
  replace hg := of_decide_eq_true hg
  refine cl_cpr 5 26 S V ee30 k32 ee31 k33 (by decide) rfl hl.1 q1050 q500 q499 q93 (n := 9) hg.1 hg.2.1 hg.2.2 (Nat.le_of_ble_eq_true rfl) (Nat.le_of_ble_eq_true rfl) dX2_become_119 (by decide) rfl (fun _ _ V => ?_)
  obtain ⟨σ34, eσ34⟩ : ∃ x, x = (cl_sr σ29 (cl_r σ29 o0 9) (va_cpy (cl_r σ29 (cl_r σ29 o1 9)) (cl_r σ29 (cl_r σ29 o0 9)) 0 0 9)) := ⟨_, rfl⟩
  rw [← eσ34] at V
  replace hF := dx_let_e eσ34 hF
  replace e0 : cl_at ad σ34 a0 o0 := by rw [eσ34]; exact e0
  replace e1 : cl_at ad σ34 a1 o1 := by rw [eσ34]; exact e1
  replace k1 : cl_k σ34 o1 = 2 := by rw [eσ34]; exact k1
  replace k2 : cl_k σ34 o0 = 2 := by rw [eσ34]; exact k2
  replace k7 : cl_k σ34 (cl_r σ4 o1 4) = 25 := by rw [eσ34]; exact k7
  replace k8 : cl_k σ34 (cl_r σ4 o0 4) = 25 := by rw [eσ34]; exact k8
  replace k12 : cl_k σ34 (cl_r σ9 o1 5) = 20 := by rw [eσ34]; exact k12
  replace k13 : cl_k σ34 (cl_r σ9 o0 5) = 20 := by rw [eσ34]; exact k13
  replace k17 : cl_k σ34 (cl_r σ14 o1 6) = 20 := by rw [eσ34]; exact k17
  replace k18 : cl_k σ34 (cl_r σ14 o0 6) = 20 := by rw [eσ34]; exact k18
  replace k22 : cl_k σ34 (cl_r σ19 o1 7) = 20 := by rw [eσ34]; exact k22
  replace k23 : cl_k σ34 (cl_r σ19 o0 7) = 20 := by rw [eσ34]; exact k23
  replace k27 : cl_k σ34 (cl_r σ24 o1 8) = 20 := by rw [eσ34]; exact k27
  replace k28 : cl_k σ34 (cl_r σ24 o0 8) = 20 := by rw [eσ34]; exact k28
  replace k32 : cl_k σ34 (cl_r σ29 o1 9) = 26 := by rw [eσ34]; exact k32
  replace k33 : cl_k σ34 (cl_r σ29 o0 9) = 26 := by rw [eσ34]; exact k33
  refine lv_aload_n hx hb dX2_become_122 rfl (lv_at hl 0 rfl) ?_
  obtain ⟨hF1, hF2⟩ := dx_r2 hF
  subst hF1
  subst hF2
  exact cl_rr S V hr (Or.inl ⟨_, rfl⟩) hlocks e0 dX2_become_123
theorem cd_X0_fault : yX0_fault.cls ≠ "java/lang/invoke/MethodHandle" ∧ yX0_fault.cls ≠ "java/lang/invoke/VarHandle" ∧ (parseMethodDescriptor yX0_fault.desc).map (fun d => d.parameters.length) = some 0 := by decide +kernel
set_option maxHeartbeats 4000000 in
set_option maxRecDepth 100000 in
theorem cm_X0_fault (l : Launch) (D : va_G) (dA : Nat → ClassId) (ad0 : Nat → Nat) (A : Nat → Prop) (a0 : Nat) (o0 : Nat)  (σ0 : cl_S) (r : Int32) (e0 : cl_at ad0 σ0 a0 o0) (hF : cl_X0_fault o0 σ0 = some r) : cl_Ci l yX0_fault cX0_fault 1 .int ({ frames := 0, cells := 0, slots := 0, locals := 0 }) D dA ad0 A [.ref a0] σ0 r σ0 := by
  refine cl_in RX0 rfl (by decide) (Nat.le_of_ble_eq_true rfl) ?_
  intro p e s m below meth c ls S hr hlocks hini hv hl
  have hx := S.1
  have hb := S.2.1
  have hown := S.2.2.2.1
  have hts := S.2.2.2.2
  obtain ⟨hN, hK, hP, hD, hA, hZ⟩ := hv
  have V : cl_V D dA (ad0, cl_n σ0) ad0 A s.heap σ0 s s.heap [] := ⟨hN, hK, hP, hD, va_S.rf, hA, hZ, fun _ _ => rfl, Nat.le_refl _⟩
  obtain ⟨ad, V, e0⟩ : ∃ ad, cl_V D dA (ad0, cl_n σ0) ad A s.heap σ0 s s.heap [] ∧ cl_at ad σ0 a0 o0 := ⟨ad0, V, e0⟩
  replace hl : lv_has ls 1 [(0, .ref a0)] := hl
  unfold cl_X0_fault at hF
  refine lv_aload_n hx hb dX0_fault_0 rfl (lv_at hl 0 rfl) ?_
  obtain ⟨hg, hF⟩ := dx_gd_some hF
  have k1 := of_decide_eq_true hg
  refine cl_gi S V e0 k1 rfl (by decide) in_X0 3 (by decide) rfl q271 rfl dX0_fault_1 ?_
  replace hF := Option.some.inj hF
  subst hF
  exact cl_ri S V hr hlocks rfl dX0_fault_4
theorem cd_X0_isPerson : yX0_isPerson.cls ≠ "java/lang/invoke/MethodHandle" ∧ yX0_isPerson.cls ≠ "java/lang/invoke/VarHandle" ∧ (parseMethodDescriptor yX0_isPerson.desc).map (fun d => d.parameters.length) = some 1 := by decide +kernel
set_option maxHeartbeats 4000000 in
set_option maxRecDepth 100000 in
theorem cm_X0_isPerson (l : Launch) (D : va_G) (dA : Nat → ClassId) (ad0 : Nat → Nat) (A : Nat → Prop) (a0 : Nat) (o0 : Nat) (p0 : Int32) (σ0 : cl_S) (r : Bool) (e0 : cl_at ad0 σ0 a0 o0) (hF : cl_X0_isPerson o0 σ0 p0 = some r) : cl_Ci l yX0_isPerson cX0_isPerson 2 .boolean ({ frames := 1, cells := 0, slots := 0, locals := 25 }) D dA ad0 A [.ref a0, .int p0] σ0 (dx_bI r) σ0 := by
  refine cl_in RX0 rfl (by decide) (Nat.le_of_ble_eq_true rfl) ?_
  intro p e s m below meth c ls S hr hlocks hini hv hl
  have hx := S.1
  have hb := S.2.1
  have hown := S.2.2.2.1
  have hts := S.2.2.2.2
  obtain ⟨hN, hK, hP, hD, hA, hZ⟩ := hv
  have V : cl_V D dA (ad0, cl_n σ0) ad0 A s.heap σ0 s s.heap [] := ⟨hN, hK, hP, hD, va_S.rf, hA, hZ, fun _ _ => rfl, Nat.le_refl _⟩
  obtain ⟨ad, V, e0⟩ : ∃ ad, cl_V D dA (ad0, cl_n σ0) ad A s.heap σ0 s s.heap [] ∧ cl_at ad σ0 a0 o0 := ⟨ad0, V, e0⟩
  replace hl : lv_has ls 2 [(0, .ref a0), (1, .int p0)] := hl
  unfold cl_X0_isPerson at hF
  refine lv_iload_n hx hb dX0_isPerson_0 rfl (lv_at hl 1 rfl) ?_
  refine lv_i2l hx hb dX0_isPerson_1 rfl ?_
  refine lv_lconst (v := 0) hx hb dX0_isPerson_2 (by decide) ?_
  refine lv_aload_n hx hb dX0_isPerson_3 rfl (lv_at hl 0 rfl) ?_
  obtain ⟨hg, hF⟩ := dx_gd_some hF
  have k1 := of_decide_eq_true hg
  obtain ⟨hg, hF⟩ := dx_gd_some hF
  refine cl_gr S V e0 k1 rfl (by decide) in_X0 4 (by decide) rfl q272 rfl dX0_isPerson_4 (of_decide_eq_true hg) (fun bb2 ee2 => ?_)
  obtain ⟨hg, hF⟩ := dx_gd_some hF
  have k3 := of_decide_eq_true hg
  refine cl_gi S V ee2 k3 rfl (by decide) in_X2 0 (by decide) rfl q152 rfl dX0_isPerson_7 ?_
  refine lv_iconst (v := 1) hx hb dX0_isPerson_10 (by decide) ?_
  refine lv_isub hx hb dX0_isPerson_11 ?_
  refine lv_i2l hx hb dX0_isPerson_12 rfl ?_
  obtain ⟨r4, h4c, hF⟩ := dx_b1_some hF
  refine dx_cPi S [.long p0.toInt64, .long (0 : Int64), .long (((cl_i σ0 (cl_r σ0 o0 4) 0) - (1 : Int32)).toInt64)] (cm_X0_isIn l p0.toInt64 (0 : Int64) (((cl_i σ0 (cl_r σ0 o0 4) 0) - (1 : Int32)).toInt64) _ h4c) (va_cwS 3 hts (lw_S q402 q403 q77 q404) rfl rfl rfl cd_X0_isIn ⟨Nat.le_of_ble_eq_true rfl, Nat.le_of_ble_eq_true rfl⟩) rfl rfl hl.1 (Nat.le_of_ble_eq_true rfl) dX0_isPerson_13 ⟨Nat.le_of_ble_eq_true rfl, Nat.le_of_ble_eq_true rfl⟩ ?_
  replace hF := Option.some.inj hF
  subst hF
  exact cl_ri S V hr hlocks (dx_bI_nar _) dX0_isPerson_16
theorem cd_X0_isDay : yX0_isDay.cls ≠ "java/lang/invoke/MethodHandle" ∧ yX0_isDay.cls ≠ "java/lang/invoke/VarHandle" ∧ (parseMethodDescriptor yX0_isDay.desc).map (fun d => d.parameters.length) = some 1 := by decide +kernel
set_option maxHeartbeats 4000000 in
set_option maxRecDepth 100000 in
theorem cm_X0_isDay (l : Launch) (p0 : Int32) (r : Bool) (hF : cl_X0_isDay p0 = some r) : dx_Pi l yX0_isDay cX0_isDay 1 .boolean ({ frames := 1, cells := 0, slots := 0, locals := 25 }) [.int p0] (dx_bI r) := by
  refine dx_in RX0 rfl (by decide) (Nat.le_of_ble_eq_true rfl) ?_
  intro p e s m below meth c ls S hr hlocks hv hl
  have hx := S.1
  have hb := S.2.1
  have hown := S.2.2.2.1
  have hts := S.2.2.2.2
  replace hl : lv_has ls 1 [(0, .int p0)] := hl
  unfold cl_X0_isDay at hF
  refine lv_iload_n hx hb dX0_isDay_0 rfl (lv_at hl 0 rfl) ?_
  refine lv_i2l hx hb dX0_isDay_1 rfl ?_
  refine lv_lconst (v := 0) hx hb dX0_isDay_2 (by decide) ?_
  refine lv_ldc2 hx hb hown (hts _ q1066) dX0_isDay_3 ?_
  obtain ⟨r1, h1c, hF⟩ := dx_b1_some hF
  refine dx_cPi S [.long p0.toInt64, .long (0 : Int64), .long (30 : Int64)] (cm_X0_isIn l p0.toInt64 (0 : Int64) (30 : Int64) _ h1c) (va_cwS 3 hts (lw_S q402 q403 q77 q404) rfl rfl rfl cd_X0_isIn ⟨Nat.le_of_ble_eq_true rfl, Nat.le_of_ble_eq_true rfl⟩) rfl rfl hl.1 (Nat.le_of_ble_eq_true rfl) dX0_isDay_6 ⟨Nat.zero_le _, Nat.zero_le _⟩ ?_
  replace hF := Option.some.inj hF
  subst hF
  exact dx_rPi S hr hlocks (dx_bI_nar _) dX0_isDay_9
theorem cd_X0_keep : yX0_keep.cls ≠ "java/lang/invoke/MethodHandle" ∧ yX0_keep.cls ≠ "java/lang/invoke/VarHandle" ∧ (parseMethodDescriptor yX0_keep.desc).map (fun d => d.parameters.length) = some 0 := by decide +kernel
set_option maxHeartbeats 4000000 in
set_option maxRecDepth 100000 in
theorem cm_X0_keep (l : Launch) (D : va_G) (dA : Nat → ClassId) (ad0 : Nat → Nat) (A : Nat → Prop) (a0 : Nat) (o0 : Nat)  (σ0 : cl_S) (σ' : cl_S) (e0 : cl_at ad0 σ0 a0 o0) (hF : cl_X0_keep o0 σ0 = some σ') : cl_Cv l yX0_keep cX0_keep 3 ({ frames := 2, cells := 7, slots := 67, locals := 47 }) D dA ad0 A [.ref a0] σ0 σ' := by
  refine cl_in RX0 rfl (by decide) (Nat.le_of_ble_eq_true rfl) ?_
  intro p e s m below meth c ls S hr hlocks hini hv hl
  have hx := S.1
  have hb := S.2.1
  have hown := S.2.2.2.1
  have hts := S.2.2.2.2
  obtain ⟨hN, hK, hP, hD, hA, hZ⟩ := hv
  have V : cl_V D dA (ad0, cl_n σ0) ad0 A s.heap σ0 s s.heap [] := ⟨hN, hK, hP, hD, va_S.rf, hA, hZ, fun _ _ => rfl, Nat.le_refl _⟩
  obtain ⟨ad, V, e0⟩ : ∃ ad, cl_V D dA (ad0, cl_n σ0) ad A s.heap σ0 s s.heap [] ∧ cl_at ad σ0 a0 o0 := ⟨ad0, V, e0⟩
  replace hl : lv_has ls 3 [(0, .ref a0)] := hl
  unfold cl_X0_keep at hF
  have hJ90 : ∀ (σ : cl_S) (ad : Nat → Nat) (H : Heap) (locs : List Loc) (ls : Array Slot), cl_X0_keep_J90 o0 σ = some σ' → cl_at ad σ a0 o0 → cl_V D dA (ad0, cl_n σ0) ad A s.heap σ s H locs → lv_has ls 3 [(0, .ref a0)] → W p l e ({ frames := 2, cells := 7, slots := 67, locals := 47 }) s m ([.ref a0] : List Value).toArray below meth c H locs 7 67 (MQ below (cl_Qv D dA ad0 A σ0 σ') ([.ref a0] : List Value).toArray s 7 67 A) (F0 m 90 ls []) := by
    intro σ ad H locs ls hF e0 V hl
    unfold cl_X0_keep_J90 at hF
    refine lv_aload_n hx hb dX0_keep_90 rfl (lv_at hl 0 rfl) ?_
    obtain ⟨hg, hF⟩ := dx_gd_some hF
    have k14 := of_decide_eq_true hg
    obtain ⟨hg, hF⟩ := dx_gd_some hF
    refine cl_gr S V e0 k14 rfl (by decide) in_X0 8 (by decide) rfl q276 rfl dX0_keep_91 (of_decide_eq_true hg) (fun bb15 ee15 => ?_)
    refine lv_aload_n hx hb dX0_keep_94 rfl (lv_at hl 0 rfl) ?_
    refine cl_gi S V e0 k14 rfl (by decide) in_X0 9 (by decide) rfl q277 rfl dX0_keep_95 ?_
    obtain ⟨hg, hF⟩ := dx_gd_some hF
    have k16 := of_decide_eq_true hg
    obtain ⟨hi17, hF⟩ := dx_gd_some hF
    obtain ⟨hg, hF⟩ := dx_gd_some hF
    refine cl_lr 6 27 S V ee15 k16 (by decide) rfl (dx_inb_in hi17) dX0_keep_98 (of_decide_eq_true hg) (fun bb18 ee18 => ?_)
    refine lv_aload_n hx hb dX0_keep_99 rfl (lv_at hl 0 rfl) ?_
    obtain ⟨hg, hF⟩ := dx_gd_some hF
    refine cl_gr S V e0 k14 rfl (by decide) in_X0 4 (by decide) rfl q272 rfl dX0_keep_100 (of_decide_eq_true hg) (fun bb19 ee19 => ?_)
    obtain ⟨hg, hF⟩ := dx_gd_some hF
    have k21 := of_decide_eq_true hg
    obtain ⟨r20, σ20, h20c, hF⟩ := dx_b2_some hF
    obtain ⟨hg, hF⟩ := dx_gd_some hF
    refine cl_cr (va_runV (As := [.ref bb19]) S (cm_X2_become l D dA _ A bb18 bb19 (cl_r σ (cl_r σ o0 8) (cl_i σ o0 9).toNatClampNeg) (cl_r σ o0 4)  σ _ _ ee18 ee19 h20c) (cwV 1 hts (lw_V q1046 q1047 q1048 q79 q1049) rfl rfl rfl ⟨rfl, cd_X2_become⟩ ⟨Nat.le_of_ble_eq_true rfl, Nat.le_of_ble_eq_true rfl⟩) (cl_preV V [.ref bb19] ee18 k21 rfl (by decide)) rfl rfl hl.1 rfl (lv_room (Nat.le_of_ble_eq_true rfl)) dX0_keep_103 ⟨Nat.le_of_ble_eq_true rfl, Nat.le_of_ble_eq_true rfl⟩) V (of_decide_eq_true hg) (fun bb20 ad _ _ hag hle ee20 V => ?_)
    replace e0 := e0.mv hag hle
    refine lv_pop hx hb dX0_keep_106 rfl ?_
    refine lv_aload_n hx hb dX0_keep_107 rfl (lv_at hl 0 rfl) ?_
    refine lv_dup hx hb dX0_keep_108 rfl ?_
    obtain ⟨hg, hF⟩ := dx_gd_some hF
    have k22 := of_decide_eq_true hg
    refine cl_gi S V e0 k22 rfl (by decide) in_X0 9 (by decide) rfl q277 rfl dX0_keep_109 ?_
    refine lv_iconst (v := 1) hx hb dX0_keep_112 (by decide) ?_
    refine lv_iadd hx hb dX0_keep_113 ?_
    refine cl_pi S V e0 k22 rfl (by decide) in_X0 tyX0 tyX0_ok nmX0 9 (by decide) rfl q277 rfl rfl rfl dX0_keep_114 (fun _ _ V => ?_)
    obtain ⟨σ23, eσ23⟩ : ∃ x, x = (cl_wi σ20 o0 9 ((cl_i σ20 o0 9) + (1 : Int32))) := ⟨_, rfl⟩
    rw [← eσ23] at V
    replace hF := dx_let_e eσ23 hF
    replace e0 : cl_at ad σ23 a0 o0 := by rw [eσ23]; exact e0
    replace k22 : cl_k σ23 o0 = 0 := by rw [eσ23]; exact k22
    refine W.widen (k := 7) (n := 67) (by first | omega | (dsimp only; omega)) (by first | omega | (dsimp only; omega)) ?_
    replace hF := Option.some.inj hF
    subst hF
    exact cl_rv S V hr hlocks dX0_keep_117
  have hJ62 : ∀ (σ : cl_S) (ad : Nat → Nat) (H : Heap) (locs : List Loc) (ls : Array Slot), cl_X0_keep_J62 o0 σ = some σ' → cl_at ad σ a0 o0 → cl_V D dA (ad0, cl_n σ0) ad A s.heap σ s H locs → lv_has ls 3 [(0, .ref a0)] → W p l e ({ frames := 2, cells := 7, slots := 67, locals := 47 }) s m ([.ref a0] : List Value).toArray below meth c H locs 0 0 (MQ below (cl_Qv D dA ad0 A σ0 σ') ([.ref a0] : List Value).toArray s 7 67 A) (F0 m 62 ls []) := by
    intro σ ad H locs ls hF e0 V hl
    unfold cl_X0_keep_J62 at hF
    refine lv_aload_n hx hb dX0_keep_62 rfl (lv_at hl 0 rfl) ?_
    obtain ⟨hg, hF⟩ := dx_gd_some hF
    have k2 := of_decide_eq_true hg
    obtain ⟨hg, hF⟩ := dx_gd_some hF
    refine cl_gr S V e0 k2 rfl (by decide) in_X0 8 (by decide) rfl q276 rfl dX0_keep_63 (of_decide_eq_true hg) (fun bb3 ee3 => ?_)
    refine lv_aload_n hx hb dX0_keep_66 rfl (lv_at hl 0 rfl) ?_
    refine cl_gi S V e0 k2 rfl (by decide) in_X0 9 (by decide) rfl q277 rfl dX0_keep_67 ?_
    obtain ⟨hg, hF⟩ := dx_gd_some hF
    have k4 := of_decide_eq_true hg
    obtain ⟨hi5, hF⟩ := dx_gd_some hF
    by_cases hn6 : (cl_r σ (cl_r σ o0 8) (cl_i σ o0 9).toNatClampNeg) = 0
    · replace hF := (if_pos hn6).symm.trans hF
      refine cl_ln 6 27 S V ee3 k4 (by decide) rfl (dx_inb_in hi5) dX0_keep_70 hn6 ?_
      refine lv_ifnonnullN hx hb dX0_keep_71 ?_
      refine lv_aload_n hx hb dX0_keep_74 rfl (lv_at hl 0 rfl) ?_
      obtain ⟨hg, hF⟩ := dx_gd_some hF
      refine cl_gr S V e0 k2 rfl (by decide) in_X0 8 (by decide) rfl q276 rfl dX0_keep_75 (of_decide_eq_true hg) (fun bb7 ee7 => ?_)
      refine lv_aload_n hx hb dX0_keep_78 rfl (lv_at hl 0 rfl) ?_
      refine cl_gi S V e0 k2 rfl (by decide) in_X0 9 (by decide) rfl q277 rfl dX0_keep_79 ?_
      refine cl_new S V rfl (by decide) in_X2 tyX2 tyX2_ok cl_dfX2 q140 q141 q79 (Nat.le_of_ble_eq_true rfl) (Nat.le_of_ble_eq_true rfl) dX0_keep_82 (fun bb8 ad _ hag ee8 V => ?_)
      replace ee7 := cl_at.nw 2 0 ee7 hag
      replace e0 := cl_at.nw 2 0 e0 hag
      have k8 : cl_k (cl_nw σ 2 0) (cl_n σ + 1) = 2 := cl_k_nw
      refine lv_dup hx hb dX0_keep_85 rfl ?_
      obtain ⟨σ9, h9c, hF⟩ := dx_b1_some hF
      refine cl_cv (va_runI (As := []) S (cm_X2_init l D dA _ A bb8 (cl_n σ + 1)  (cl_nw σ 2 0) _ ee8 h9c) (cwI 0 hts (lw_meth q144) rfl rfl rfl (hts _ q79) (hts _ q142) (hts _ q143) rfl cd_X2_init ⟨Nat.le_of_ble_eq_true rfl, Nat.le_of_ble_eq_true rfl⟩) (cl_preS V [.ref bb8]) rfl rfl hl.1 rfl (lv_room (Nat.le_of_ble_eq_true rfl)) dX0_keep_86 ⟨Nat.le_of_ble_eq_true rfl, Nat.le_of_ble_eq_true rfl⟩) V (fun ad _ _ hag hle V => ?_)
      replace ee7 := ee7.mv hag hle
      replace ee8 := ee8.mv hag hle
      replace e0 := e0.mv hag hle
      obtain ⟨hg, hF⟩ := dx_gd_some hF
      have k10 := of_decide_eq_true hg
      obtain ⟨hi11, hF⟩ := dx_gd_some hF
      obtain ⟨hg, hF⟩ := dx_gd_some hF
      have k12 := of_decide_eq_true hg
      refine cl_sa 6 27 S V ee7 k10 (by decide) rfl (dx_inb_in hi11) ee8 (cl_anyS V ee8 k12 rfl (by decide)) dX0_keep_89 (fun _ _ V => ?_)
      obtain ⟨σ13, eσ13⟩ : ∃ x, x = (cl_wr σ9 (cl_r σ o0 8) (cl_i σ o0 9).toNatClampNeg (cl_n σ + 1)) := ⟨_, rfl⟩
      rw [← eσ13] at V
      replace hF := dx_let_e eσ13 hF
      replace e0 : cl_at ad σ13 a0 o0 := by rw [eσ13]; exact e0
      replace k10 : cl_k σ13 (cl_r σ o0 8) = 27 := by rw [eσ13]; exact k10
      replace k12 : cl_k σ13 (cl_n σ + 1) = 2 := by rw [eσ13]; exact k12
      refine W.widen (k := 7) (n := 67) (by first | omega | (dsimp only; omega)) (by first | omega | (dsimp only; omega)) ?_
      exact hJ90 σ13 _ _ _ _ hF e0 V (lv_sub hl [0] rfl)
    · replace hF := (if_neg hn6).symm.trans hF
      refine cl_lr 6 27 S V ee3 k4 (by decide) rfl (dx_inb_in hi5) dX0_keep_70 hn6 (fun bb6 ee6 => ?_)
      refine lv_ifnonnull (tgt := 90) hx hb dX0_keep_71 (by decide) ?_
      refine W.widen (k := 7) (n := 67) (by first | omega | (dsimp only; omega)) (by first | omega | (dsimp only; omega)) ?_
      exact hJ90 σ _ _ _ _ hF e0 V (lv_sub hl [0] rfl)
  have hL18 : ∀ (v1 : Nat) (n : Nat) (v2 : Int32) (σ : cl_S) (ad : Nat → Nat) (b1 : Nat) (H : Heap) (locs : List Loc) (ls : Array Slot), dx_lp (fun x => cl_X0_keep_L18 o0 x.2 v1 x.1) n (v2, σ) = some σ' → cl_at ad σ a0 o0 → cl_at ad σ b1 v1 → cl_V D dA (ad0, cl_n σ0) ad A s.heap σ s H locs → lv_has ls 3 [(0, .ref a0), (1, .ref b1), (2, .int v2)] → W p l e ({ frames := 2, cells := 7, slots := 67, locals := 47 }) s m ([.ref a0] : List Value).toArray below meth c H locs 0 0 (MQ below (cl_Qv D dA ad0 A σ0 σ') ([.ref a0] : List Value).toArray s 7 67 A) (F0 m 18 ls []) := by
    intro v1 n
    induction n with
    | zero =>
      intro v2 σ ad b1 H locs ls hF e0 e1 V hl
      exact (dx_lp_0 hF).elim
    | succ n ih18 =>
      intro v2 σ ad b1 H locs ls hF e0 e1 V hl
      obtain ⟨y18, hF, hz18⟩ := dx_lp_s hF
      replace hF : cl_X0_keep_L18 o0 σ v1 v2 = some y18 := hF
      unfold cl_X0_keep_L18 at hF
      refine lv_iload_n hx hb dX0_keep_18 rfl (lv_at hl 2 rfl) ?_
      refine lv_bipush (v := 16) hx hb dX0_keep_19 (by decide) ?_
      refine lv_icmp_ge (tgt := 44) hx hb dX0_keep_21 (by decide) (fun hc => ?_) (fun hc => ?_)
      · replace hF := (if_pos hc).symm.trans hF
        replace hF := dx_ex_k hF hz18
        refine lv_aload_n hx hb dX0_keep_44 rfl (lv_at hl 0 rfl) ?_
        obtain ⟨hg, hF⟩ := dx_gd_some hF
        have k28 := of_decide_eq_true hg
        obtain ⟨hg, hF⟩ := dx_gd_some hF
        refine cl_gr S V e0 k28 rfl (by decide) in_X0 8 (by decide) rfl q276 rfl dX0_keep_45 (of_decide_eq_true hg) (fun bb29 ee29 => ?_)
        refine lv_bipush (v := 15) hx hb dX0_keep_48 (by decide) ?_
        refine lv_aload_n hx hb dX0_keep_50 rfl (lv_at hl 1 rfl) ?_
        obtain ⟨hg, hF⟩ := dx_gd_some hF
        have k30 := of_decide_eq_true hg
        obtain ⟨hi31, hF⟩ := dx_gd_some hF
        obtain ⟨hg, hF⟩ := dx_gd_some hF
        have k32 := of_decide_eq_true hg
        refine cl_sa 6 27 S V ee29 k30 (by decide) rfl (dx_inb_in hi31) e1 (cl_anyS V e1 k32 rfl (by decide)) dX0_keep_51 (fun _ _ V => ?_)
        obtain ⟨σ33, eσ33⟩ : ∃ x, x = (cl_wr σ (cl_r σ o0 8) (15 : Int32).toNatClampNeg v1) := ⟨_, rfl⟩
        rw [← eσ33] at V
        replace hF := dx_let_e eσ33 hF
        replace e0 : cl_at ad σ33 a0 o0 := by rw [eσ33]; exact e0
        replace e1 : cl_at ad σ33 b1 v1 := by rw [eσ33]; exact e1
        replace k28 : cl_k σ33 o0 = 0 := by rw [eσ33]; exact k28
        replace k30 : cl_k σ33 (cl_r σ o0 8) = 27 := by rw [eσ33]; exact k30
        replace k32 : cl_k σ33 v1 = 2 := by rw [eσ33]; exact k32
        refine lv_aload_n hx hb dX0_keep_52 rfl (lv_at hl 0 rfl) ?_
        refine lv_dup hx hb dX0_keep_53 rfl ?_
        refine cl_gi S V e0 k28 rfl (by decide) in_X0 9 (by decide) rfl q277 rfl dX0_keep_54 ?_
        refine lv_iconst (v := 1) hx hb dX0_keep_57 (by decide) ?_
        refine lv_isub hx hb dX0_keep_58 ?_
        refine cl_pi S V e0 k28 rfl (by decide) in_X0 tyX0 tyX0_ok nmX0 9 (by decide) rfl q277 rfl rfl rfl dX0_keep_59 (fun _ _ V => ?_)
        obtain ⟨σ34, eσ34⟩ : ∃ x, x = (cl_wi σ33 o0 9 ((cl_i σ33 o0 9) - (1 : Int32))) := ⟨_, rfl⟩
        rw [← eσ34] at V
        replace hF := dx_let_e eσ34 hF
        replace e0 : cl_at ad σ34 a0 o0 := by rw [eσ34]; exact e0
        replace e1 : cl_at ad σ34 b1 v1 := by rw [eσ34]; exact e1
        replace k28 : cl_k σ34 o0 = 0 := by rw [eσ34]; exact k28
        replace k30 : cl_k σ34 (cl_r σ o0 8) = 27 := by rw [eσ34]; exact k30
        replace k32 : cl_k σ34 v1 = 2 := by rw [eσ34]; exact k32
        refine W.widen (k := 0) (n := 0) (by first | omega | (dsimp only; omega)) (by first | omega | (dsimp only; omega)) ?_
        exact hJ62 σ34 _ _ _ _ hF e0 V (lv_sub hl [0] rfl)
      · replace hF := (if_neg hc).symm.trans hF
        refine lv_aload_n hx hb dX0_keep_24 rfl (lv_at hl 0 rfl) ?_
        obtain ⟨hg, hF⟩ := dx_gd_some hF
        have k35 := of_decide_eq_true hg
        obtain ⟨hg, hF⟩ := dx_gd_some hF
        refine cl_gr S V e0 k35 rfl (by decide) in_X0 8 (by decide) rfl q276 rfl dX0_keep_25 (of_decide_eq_true hg) (fun bb36 ee36 => ?_)
        refine lv_iload_n hx hb dX0_keep_28 rfl (lv_at hl 2 rfl) ?_
        refine lv_iconst (v := 1) hx hb dX0_keep_29 (by decide) ?_
        refine lv_isub hx hb dX0_keep_30 ?_
        refine lv_aload_n hx hb dX0_keep_31 rfl (lv_at hl 0 rfl) ?_
        obtain ⟨hg, hF⟩ := dx_gd_some hF
        refine cl_gr S V e0 k35 rfl (by decide) in_X0 8 (by decide) rfl q276 rfl dX0_keep_32 (of_decide_eq_true hg) (fun bb37 ee37 => ?_)
        refine lv_iload_n hx hb dX0_keep_35 rfl (lv_at hl 2 rfl) ?_
        obtain ⟨hg, hF⟩ := dx_gd_some hF
        have k38 := of_decide_eq_true hg
        obtain ⟨hi39, hF⟩ := dx_gd_some hF
        obtain ⟨hg, hF⟩ := dx_gd_some hF
        refine cl_lr 6 27 S V ee37 k38 (by decide) rfl (dx_inb_in hi39) dX0_keep_36 (of_decide_eq_true hg) (fun bb40 ee40 => ?_)
        obtain ⟨hi41, hF⟩ := dx_gd_some hF
        obtain ⟨hg, hF⟩ := dx_gd_some hF
        have k42 := of_decide_eq_true hg
        refine cl_sa 6 27 S V ee36 k38 (by decide) rfl (dx_inb_in hi41) ee40 (cl_anyS V ee40 k42 rfl (by decide)) dX0_keep_37 (fun _ _ V => ?_)
        obtain ⟨σ43, eσ43⟩ : ∃ x, x = (cl_wr σ (cl_r σ o0 8) (v2 - (1 : Int32)).toNatClampNeg (cl_r σ (cl_r σ o0 8) v2.toNatClampNeg)) := ⟨_, rfl⟩
        rw [← eσ43] at V
        replace hF := dx_let_e eσ43 hF
        replace e0 : cl_at ad σ43 a0 o0 := by rw [eσ43]; exact e0
        replace e1 : cl_at ad σ43 b1 v1 := by rw [eσ43]; exact e1
        replace k35 : cl_k σ43 o0 = 0 := by rw [eσ43]; exact k35
        replace k38 : cl_k σ43 (cl_r σ o0 8) = 27 := by rw [eσ43]; exact k38
        replace k42 : cl_k σ43 (cl_r σ (cl_r σ o0 8) v2.toNatClampNeg) = 2 := by rw [eσ43]; exact k42
        refine lv_iinc (v := (v2 + (1 : Int32))) (lv' := [(2, .int (v2 + (1 : Int32))), (0, .ref a0), (1, .ref b1)]) hx hb dX0_keep_38 hl (k := 2) rfl rfl (by decide) rfl (fun ls hl => ?_)
        refine lv_goto (tgt := 18) hx hb dX0_keep_41 (by decide) ?_
        refine W.widen (k := 0) (n := 0) (by first | omega | (dsimp only; omega)) (by first | omega | (dsimp only; omega)) ?_
        replace hF := Option.some.inj hF
        subst hF
        exact ih18 (v2 + (1 : Int32)) σ43 _ _ _ _ _ (dx_lk_l hz18) e0 e1 V (lv_sub hl [1, 2, 0] rfl)
  refine lv_aload_n hx hb dX0_keep_0 rfl (lv_at hl 0 rfl) ?_
  obtain ⟨hg, hF⟩ := dx_gd_some hF
  have k1 := of_decide_eq_true hg
  refine cl_gi S V e0 k1 rfl (by decide) in_X0 9 (by decide) rfl q277 rfl dX0_keep_1 ?_
  refine lv_bipush (v := 16) hx hb dX0_keep_4 (by decide) ?_
  refine lv_icmp_ne (tgt := 62) hx hb dX0_keep_6 (by decide) (fun hc => ?_) (fun hc => ?_)
  · replace hF := (if_neg hc).symm.trans hF
    refine W.widen (k := 0) (n := 0) (by first | omega | (dsimp only; omega)) (by first | omega | (dsimp only; omega)) ?_
    exact hJ62 σ0 _ _ _ _ hF e0 V (lv_sub hl [0] rfl)
  · replace hF := (if_pos hc).symm.trans hF
    refine lv_aload_n hx hb dX0_keep_9 rfl (lv_at hl 0 rfl) ?_
    obtain ⟨hg, hF⟩ := dx_gd_some hF
    refine cl_gr S V e0 k1 rfl (by decide) in_X0 8 (by decide) rfl q276 rfl dX0_keep_10 (of_decide_eq_true hg) (fun bb24 ee24 => ?_)
    refine lv_iconst (v := 0) hx hb dX0_keep_13 (by decide) ?_
    obtain ⟨hg, hF⟩ := dx_gd_some hF
    have k25 := of_decide_eq_true hg
    obtain ⟨hi26, hF⟩ := dx_gd_some hF
    obtain ⟨hg, hF⟩ := dx_gd_some hF
    refine cl_lr 6 27 S V ee24 k25 (by decide) rfl (dx_inb_in hi26) dX0_keep_14 (of_decide_eq_true hg) (fun bb27 ee27 => ?_)
    refine lv_astore_n (lv' := [(1, .ref bb27), (0, .ref a0)]) hx hb dX0_keep_15 rfl hl (by decide) rfl (fun ls hl => ?_)
    refine lv_iconst (v := 1) hx hb dX0_keep_16 (by decide) ?_
    refine lv_istore_n (lv' := [(2, .int (1 : Int32)), (1, .ref bb27), (0, .ref a0)]) hx hb dX0_keep_17 rfl hl (by decide) rfl (fun ls hl => ?_)
    refine W.widen (k := 0) (n := 0) (by first | omega | (dsimp only; omega)) (by first | omega | (dsimp only; omega)) ?_
    exact hL18 (cl_r σ0 (cl_r σ0 o0 8) (0 : Int32).toNatClampNeg) dx_fu (1 : Int32) σ0 _ _ _ _ _ hF e0 ee27 V (lv_sub hl [2, 1, 0] rfl)
theorem cd_X0_meet : yX0_meet.cls ≠ "java/lang/invoke/MethodHandle" ∧ yX0_meet.cls ≠ "java/lang/invoke/VarHandle" ∧ (parseMethodDescriptor yX0_meet.desc).map (fun d => d.parameters.length) = some 3 := by decide +kernel
set_option maxHeartbeats 4000000 in
set_option maxRecDepth 100000 in
theorem cm_X0_meet (l : Launch) (D : va_G) (dA : Nat → ClassId) (ad0 : Nat → Nat) (A : Nat → Prop) (a0 : Nat) (o0 : Nat) (p0 : Int32) (p1 : Int32) (p2 : Int32) (σ0 : cl_S) (r : Int32) (σ' : cl_S) (e0 : cl_at ad0 σ0 a0 o0) (hF : cl_X0_meet o0 σ0 p0 p1 p2 = some (r, σ')) : cl_Ci l yX0_meet cX0_meet 4 .int ({ frames := 3, cells := 7, slots := 67, locals := 69 }) D dA ad0 A [.ref a0, .int p0, .int p1, .int p2] σ0 r σ' := by
  refine cl_in RX0 rfl (by decide) (Nat.le_of_ble_eq_true rfl) ?_
  intro p e s m below meth c ls S hr hlocks hini hv hl
  have hx := S.1
  have hb := S.2.1
  have hown := S.2.2.2.1
  have hts := S.2.2.2.2
  obtain ⟨hN, hK, hP, hD, hA, hZ⟩ := hv
  have V : cl_V D dA (ad0, cl_n σ0) ad0 A s.heap σ0 s s.heap [] := ⟨hN, hK, hP, hD, va_S.rf, hA, hZ, fun _ _ => rfl, Nat.le_refl _⟩
  obtain ⟨ad, V, e0⟩ : ∃ ad, cl_V D dA (ad0, cl_n σ0) ad A s.heap σ0 s s.heap [] ∧ cl_at ad σ0 a0 o0 := ⟨ad0, V, e0⟩
  replace hl : lv_has ls 4 [(0, .ref a0), (1, .int p0), (2, .int p1), (3, .int p2)] := hl
  unfold cl_X0_meet at hF
  refine lv_aload_n hx hb dX0_meet_0 rfl (lv_at hl 0 rfl) ?_
  refine lv_iload_n hx hb dX0_meet_1 rfl (lv_at hl 1 rfl) ?_
  obtain ⟨hg, hF⟩ := dx_gd_some hF
  have k2 := of_decide_eq_true hg
  obtain ⟨r1, h1c, hF⟩ := dx_b1_some hF
  refine cl_ci (va_runV (As := [.int p0]) S (cm_X0_isPerson l D dA _ A a0 o0 p0 σ0 _ e0 h1c) (cwV 1 hts (lw_V q1059 q1061 qs17 q77 q1062) rfl rfl rfl ⟨rfl, cd_X0_isPerson⟩ ⟨Nat.le_of_ble_eq_true rfl, Nat.le_of_ble_eq_true rfl⟩) (cl_preV V [.int p0] e0 k2 rfl (by decide)) rfl rfl hl.1 rfl (lv_room (Nat.le_of_ble_eq_true rfl)) dX0_meet_2 ⟨Nat.le_of_ble_eq_true rfl, Nat.le_of_ble_eq_true rfl⟩) V (fun ad _ _ hag hle V => ?_)
  replace e0 := e0.mv hag hle
  refine lv_if_eq (tgt := 28) hx hb dX0_meet_5 (by decide) (fun hc => ?_) (fun hc => ?_)
  · replace hF := dx_ib_f (dx_bI_0 hc) hF
    refine lv_ldc hx hb hown (hts _ q406) dX0_meet_28 ?_
    refine W.widen (k := 7) (n := 67) (by first | omega | (dsimp only; omega)) (by first | omega | (dsimp only; omega)) ?_
    obtain ⟨hF1, hF2⟩ := dx_r2 hF
    subst hF1
    subst hF2
    exact cl_ri S V hr hlocks rfl dX0_meet_30
  · replace hF := dx_ib_t (dx_bI_n hc) hF
    refine lv_aload_n hx hb dX0_meet_8 rfl (lv_at hl 0 rfl) ?_
    refine lv_iload_n hx hb dX0_meet_9 rfl (lv_at hl 2 rfl) ?_
    obtain ⟨r3, h3c, hF⟩ := dx_b1_some hF
    refine cl_ci (va_runV (As := [.int p1]) S (cm_X0_isPerson l D dA _ A a0 o0 p1 σ0 _ e0 h3c) (cwV 1 hts (lw_V q1059 q1061 qs17 q77 q1062) rfl rfl rfl ⟨rfl, cd_X0_isPerson⟩ ⟨Nat.le_of_ble_eq_true rfl, Nat.le_of_ble_eq_true rfl⟩) (cl_preV V [.int p1] e0 k2 rfl (by decide)) rfl rfl hl.1 rfl (lv_room (Nat.le_of_ble_eq_true rfl)) dX0_meet_10 ⟨Nat.le_of_ble_eq_true rfl, Nat.le_of_ble_eq_true rfl⟩) V (fun ad _ _ hag hle V => ?_)
    replace e0 := e0.mv hag hle
    refine lv_if_eq (tgt := 28) hx hb dX0_meet_13 (by decide) (fun hc => ?_) (fun hc => ?_)
    · replace hF := dx_ib_f (dx_bI_0 hc) hF
      refine lv_ldc hx hb hown (hts _ q406) dX0_meet_28 ?_
      refine W.widen (k := 7) (n := 67) (by first | omega | (dsimp only; omega)) (by first | omega | (dsimp only; omega)) ?_
      obtain ⟨hF1, hF2⟩ := dx_r2 hF
      subst hF1
      subst hF2
      exact cl_ri S V hr hlocks rfl dX0_meet_30
    · replace hF := dx_ib_t (dx_bI_n hc) hF
      refine lv_iload_n hx hb dX0_meet_16 rfl (lv_at hl 1 rfl) ?_
      refine lv_iload_n hx hb dX0_meet_17 rfl (lv_at hl 2 rfl) ?_
      refine lv_icmp_eq (tgt := 28) hx hb dX0_meet_18 (by decide) (fun hc => ?_) (fun hc => ?_)
      · replace hF := (if_pos hc).symm.trans hF
        refine lv_ldc hx hb hown (hts _ q406) dX0_meet_28 ?_
        refine W.widen (k := 7) (n := 67) (by first | omega | (dsimp only; omega)) (by first | omega | (dsimp only; omega)) ?_
        obtain ⟨hF1, hF2⟩ := dx_r2 hF
        subst hF1
        subst hF2
        exact cl_ri S V hr hlocks rfl dX0_meet_30
      · replace hF := (if_neg hc).symm.trans hF
        refine lv_iload_n hx hb dX0_meet_21 rfl (lv_at hl 3 rfl) ?_
        obtain ⟨r4, h4c, hF⟩ := dx_b1_some hF
        refine dx_cPi S [.int p2] (cm_X0_isDay l p2 _ h4c) (va_cwS 1 hts (lw_S q1063 q1064 q77 q1065) rfl rfl rfl cd_X0_isDay ⟨Nat.le_of_ble_eq_true rfl, Nat.le_of_ble_eq_true rfl⟩) rfl rfl hl.1 (Nat.le_of_ble_eq_true rfl) dX0_meet_22 ⟨Nat.le_of_ble_eq_true rfl, Nat.le_of_ble_eq_true rfl⟩ ?_
        refine lv_if_ne (tgt := 31) hx hb dX0_meet_25 (by decide) (fun hc => ?_) (fun hc => ?_)
        · replace hF := dx_ib_t (dx_bI_n hc) hF
          refine lv_aload_n hx hb dX0_meet_31 rfl (lv_at hl 0 rfl) ?_
          obtain ⟨hg, hF⟩ := dx_gd_some hF
          refine cl_gr S V e0 k2 rfl (by decide) in_X0 4 (by decide) rfl q272 rfl dX0_meet_32 (of_decide_eq_true hg) (fun bb5 ee5 => ?_)
          obtain ⟨hg, hF⟩ := dx_gd_some hF
          have k6 := of_decide_eq_true hg
          refine cl_gi S V ee5 k6 rfl (by decide) in_X2 1 (by decide) rfl q157 rfl dX0_meet_35 ?_
          refine lv_bipush (v := 10) hx hb dX0_meet_38 (by decide) ?_
          refine lv_icmp_ne (tgt := 46) hx hb dX0_meet_40 (by decide) (fun hc => ?_) (fun hc => ?_)
          · replace hF := (if_neg hc).symm.trans hF
            refine lv_aload_n hx hb dX0_meet_46 rfl (lv_at hl 0 rfl) ?_
            obtain ⟨σ7, h7c, hF⟩ := dx_b1_some hF
            refine cl_cv (va_runV (As := []) S (cm_X0_keep l D dA _ A a0 o0  σ0 _ e0 h7c) (cwV 0 hts (lw_V q1067 q1069 qs18 q77 q1070) rfl rfl rfl ⟨rfl, cd_X0_keep⟩ ⟨Nat.le_of_ble_eq_true rfl, Nat.le_of_ble_eq_true rfl⟩) (cl_preV V [] e0 k2 rfl (by decide)) rfl rfl hl.1 rfl (lv_room (Nat.le_of_ble_eq_true rfl)) dX0_meet_47 ⟨Nat.le_of_ble_eq_true rfl, Nat.le_of_ble_eq_true rfl⟩) V (fun ad _ _ hag hle V => ?_)
            replace e0 := e0.mv hag hle
            refine lv_aload_n hx hb dX0_meet_50 rfl (lv_at hl 0 rfl) ?_
            obtain ⟨hg, hF⟩ := dx_gd_some hF
            have k8 := of_decide_eq_true hg
            obtain ⟨hg, hF⟩ := dx_gd_some hF
            refine cl_gr S V e0 k8 rfl (by decide) in_X0 4 (by decide) rfl q272 rfl dX0_meet_51 (of_decide_eq_true hg) (fun bb9 ee9 => ?_)
            obtain ⟨hg, hF⟩ := dx_gd_some hF
            have k10 := of_decide_eq_true hg
            obtain ⟨hg, hF⟩ := dx_gd_some hF
            refine cl_gr S V ee9 k10 rfl (by decide) in_X2 6 (by decide) rfl q174 rfl dX0_meet_54 (of_decide_eq_true hg) (fun bb11 ee11 => ?_)
            refine lv_aload_n hx hb dX0_meet_57 rfl (lv_at hl 0 rfl) ?_
            obtain ⟨hg, hF⟩ := dx_gd_some hF
            refine cl_gr S V e0 k8 rfl (by decide) in_X0 4 (by decide) rfl q272 rfl dX0_meet_58 (of_decide_eq_true hg) (fun bb12 ee12 => ?_)
            refine cl_gi S V ee12 k10 rfl (by decide) in_X2 1 (by decide) rfl q157 rfl dX0_meet_61 ?_
            refine lv_iload_n hx hb dX0_meet_64 rfl (lv_at hl 1 rfl) ?_
            obtain ⟨hg, hF⟩ := dx_gd_some hF
            have k13 := of_decide_eq_true hg
            obtain ⟨hg, hF⟩ := dx_gd_some hF
            refine cl_st S V ee11 k13 (dx_inb_in hg) dX0_meet_65 (fun _ _ V => ?_)
            obtain ⟨σ14, eσ14⟩ : ∃ x, x = (cl_wi σ7 (cl_r σ7 (cl_r σ7 o0 4) 6) (cl_i σ7 (cl_r σ7 o0 4) 1).toNatClampNeg p0) := ⟨_, rfl⟩
            rw [← eσ14] at V
            replace hF := dx_let_e eσ14 hF
            replace e0 : cl_at ad σ14 a0 o0 := by rw [eσ14]; exact e0
            replace k8 : cl_k σ14 o0 = 0 := by rw [eσ14]; exact k8
            replace k10 : cl_k σ14 (cl_r σ7 o0 4) = 2 := by rw [eσ14]; exact k10
            replace k13 : cl_k σ14 (cl_r σ7 (cl_r σ7 o0 4) 6) = 20 := by rw [eσ14]; exact k13
            refine lv_aload_n hx hb dX0_meet_66 rfl (lv_at hl 0 rfl) ?_
            obtain ⟨hg, hF⟩ := dx_gd_some hF
            refine cl_gr S V e0 k8 rfl (by decide) in_X0 4 (by decide) rfl q272 rfl dX0_meet_67 (of_decide_eq_true hg) (fun bb15 ee15 => ?_)
            obtain ⟨hg, hF⟩ := dx_gd_some hF
            have k16 := of_decide_eq_true hg
            obtain ⟨hg, hF⟩ := dx_gd_some hF
            refine cl_gr S V ee15 k16 rfl (by decide) in_X2 7 (by decide) rfl q178 rfl dX0_meet_70 (of_decide_eq_true hg) (fun bb17 ee17 => ?_)
            refine lv_aload_n hx hb dX0_meet_73 rfl (lv_at hl 0 rfl) ?_
            obtain ⟨hg, hF⟩ := dx_gd_some hF
            refine cl_gr S V e0 k8 rfl (by decide) in_X0 4 (by decide) rfl q272 rfl dX0_meet_74 (of_decide_eq_true hg) (fun bb18 ee18 => ?_)
            refine cl_gi S V ee18 k16 rfl (by decide) in_X2 1 (by decide) rfl q157 rfl dX0_meet_77 ?_
            refine lv_iload_n hx hb dX0_meet_80 rfl (lv_at hl 2 rfl) ?_
            obtain ⟨hg, hF⟩ := dx_gd_some hF
            have k19 := of_decide_eq_true hg
            obtain ⟨hg, hF⟩ := dx_gd_some hF
            refine cl_st S V ee17 k19 (dx_inb_in hg) dX0_meet_81 (fun _ _ V => ?_)
            obtain ⟨σ20, eσ20⟩ : ∃ x, x = (cl_wi σ14 (cl_r σ14 (cl_r σ14 o0 4) 7) (cl_i σ14 (cl_r σ14 o0 4) 1).toNatClampNeg p1) := ⟨_, rfl⟩
            rw [← eσ20] at V
            replace hF := dx_let_e eσ20 hF
            replace e0 : cl_at ad σ20 a0 o0 := by rw [eσ20]; exact e0
            replace k8 : cl_k σ20 o0 = 0 := by rw [eσ20]; exact k8
            replace k10 : cl_k σ20 (cl_r σ7 o0 4) = 2 := by rw [eσ20]; exact k10
            replace k13 : cl_k σ20 (cl_r σ7 (cl_r σ7 o0 4) 6) = 20 := by rw [eσ20]; exact k13
            replace k16 : cl_k σ20 (cl_r σ14 o0 4) = 2 := by rw [eσ20]; exact k16
            replace k19 : cl_k σ20 (cl_r σ14 (cl_r σ14 o0 4) 7) = 20 := by rw [eσ20]; exact k19
            refine lv_aload_n hx hb dX0_meet_82 rfl (lv_at hl 0 rfl) ?_
            obtain ⟨hg, hF⟩ := dx_gd_some hF
            refine cl_gr S V e0 k8 rfl (by decide) in_X0 4 (by decide) rfl q272 rfl dX0_meet_83 (of_decide_eq_true hg) (fun bb21 ee21 => ?_)
            obtain ⟨hg, hF⟩ := dx_gd_some hF
            have k22 := of_decide_eq_true hg
            obtain ⟨hg, hF⟩ := dx_gd_some hF
            refine cl_gr S V ee21 k22 rfl (by decide) in_X2 8 (by decide) rfl q183 rfl dX0_meet_86 (of_decide_eq_true hg) (fun bb23 ee23 => ?_)
            refine lv_aload_n hx hb dX0_meet_89 rfl (lv_at hl 0 rfl) ?_
            obtain ⟨hg, hF⟩ := dx_gd_some hF
            refine cl_gr S V e0 k8 rfl (by decide) in_X0 4 (by decide) rfl q272 rfl dX0_meet_90 (of_decide_eq_true hg) (fun bb24 ee24 => ?_)
            refine cl_gi S V ee24 k22 rfl (by decide) in_X2 1 (by decide) rfl q157 rfl dX0_meet_93 ?_
            refine lv_iload_n hx hb dX0_meet_96 rfl (lv_at hl 3 rfl) ?_
            obtain ⟨hg, hF⟩ := dx_gd_some hF
            have k25 := of_decide_eq_true hg
            obtain ⟨hg, hF⟩ := dx_gd_some hF
            refine cl_st S V ee23 k25 (dx_inb_in hg) dX0_meet_97 (fun _ _ V => ?_)
            obtain ⟨σ26, eσ26⟩ : ∃ x, x = (cl_wi σ20 (cl_r σ20 (cl_r σ20 o0 4) 8) (cl_i σ20 (cl_r σ20 o0 4) 1).toNatClampNeg p2) := ⟨_, rfl⟩
            rw [← eσ26] at V
            replace hF := dx_let_e eσ26 hF
            replace e0 : cl_at ad σ26 a0 o0 := by rw [eσ26]; exact e0
            replace k8 : cl_k σ26 o0 = 0 := by rw [eσ26]; exact k8
            replace k10 : cl_k σ26 (cl_r σ7 o0 4) = 2 := by rw [eσ26]; exact k10
            replace k13 : cl_k σ26 (cl_r σ7 (cl_r σ7 o0 4) 6) = 20 := by rw [eσ26]; exact k13
            replace k16 : cl_k σ26 (cl_r σ14 o0 4) = 2 := by rw [eσ26]; exact k16
            replace k19 : cl_k σ26 (cl_r σ14 (cl_r σ14 o0 4) 7) = 20 := by rw [eσ26]; exact k19
            replace k22 : cl_k σ26 (cl_r σ20 o0 4) = 2 := by rw [eσ26]; exact k22
            replace k25 : cl_k σ26 (cl_r σ20 (cl_r σ20 o0 4) 8) = 20 := by rw [eσ26]; exact k25
            refine lv_aload_n hx hb dX0_meet_98 rfl (lv_at hl 0 rfl) ?_
            obtain ⟨hg, hF⟩ := dx_gd_some hF
            refine cl_gr S V e0 k8 rfl (by decide) in_X0 4 (by decide) rfl q272 rfl dX0_meet_99 (of_decide_eq_true hg) (fun bb27 ee27 => ?_)
            refine lv_dup hx hb dX0_meet_102 rfl ?_
            obtain ⟨hg, hF⟩ := dx_gd_some hF
            have k28 := of_decide_eq_true hg
            refine cl_gi S V ee27 k28 rfl (by decide) in_X2 1 (by decide) rfl q157 rfl dX0_meet_103 ?_
            refine lv_iconst (v := 1) hx hb dX0_meet_106 (by decide) ?_
            refine lv_iadd hx hb dX0_meet_107 ?_
            refine cl_pi S V ee27 k28 rfl (by decide) in_X2 tyX2 tyX2_ok nmX2 1 (by decide) rfl q157 rfl rfl rfl dX0_meet_108 (fun _ _ V => ?_)
            obtain ⟨σ29, eσ29⟩ : ∃ x, x = (cl_wi σ26 (cl_r σ26 o0 4) 1 ((cl_i σ26 (cl_r σ26 o0 4) 1) + (1 : Int32))) := ⟨_, rfl⟩
            rw [← eσ29] at V
            replace hF := dx_let_e eσ29 hF
            replace e0 : cl_at ad σ29 a0 o0 := by rw [eσ29]; exact e0
            replace k8 : cl_k σ29 o0 = 0 := by rw [eσ29]; exact k8
            replace k10 : cl_k σ29 (cl_r σ7 o0 4) = 2 := by rw [eσ29]; exact k10
            replace k13 : cl_k σ29 (cl_r σ7 (cl_r σ7 o0 4) 6) = 20 := by rw [eσ29]; exact k13
            replace k16 : cl_k σ29 (cl_r σ14 o0 4) = 2 := by rw [eσ29]; exact k16
            replace k19 : cl_k σ29 (cl_r σ14 (cl_r σ14 o0 4) 7) = 20 := by rw [eσ29]; exact k19
            replace k22 : cl_k σ29 (cl_r σ20 o0 4) = 2 := by rw [eσ29]; exact k22
            replace k25 : cl_k σ29 (cl_r σ20 (cl_r σ20 o0 4) 8) = 20 := by rw [eσ29]; exact k25
            replace k28 : cl_k σ29 (cl_r σ26 o0 4) = 2 := by rw [eσ29]; exact k28
            refine lv_aload_n hx hb dX0_meet_111 rfl (lv_at hl 0 rfl) ?_
            obtain ⟨hg, hF⟩ := dx_gd_some hF
            refine cl_gr S V e0 k8 rfl (by decide) in_X0 4 (by decide) rfl q272 rfl dX0_meet_112 (of_decide_eq_true hg) (fun bb30 ee30 => ?_)
            obtain ⟨hg, hF⟩ := dx_gd_some hF
            have k31 := of_decide_eq_true hg
            refine cl_gi S V ee30 k31 rfl (by decide) in_X2 1 (by decide) rfl q157 rfl dX0_meet_115 ?_
            refine W.widen (k := 7) (n := 67) (by first | omega | (dsimp only; omega)) (by first | omega | (dsimp only; omega)) ?_
            obtain ⟨hF1, hF2⟩ := dx_r2 hF
            subst hF1
            subst hF2
            exact cl_ri S V hr hlocks rfl dX0_meet_118
          · replace hF := (if_pos hc).symm.trans hF
            refine lv_ldc hx hb hown (hts _ q514) dX0_meet_43 ?_
            refine W.widen (k := 7) (n := 67) (by first | omega | (dsimp only; omega)) (by first | omega | (dsimp only; omega)) ?_
            obtain ⟨hF1, hF2⟩ := dx_r2 hF
            subst hF1
            subst hF2
            exact cl_ri S V hr hlocks rfl dX0_meet_45
        · replace hF := dx_ib_f (dx_bI_0 hc) hF
          refine lv_ldc hx hb hown (hts _ q406) dX0_meet_28 ?_
          refine W.widen (k := 7) (n := 67) (by first | omega | (dsimp only; omega)) (by first | omega | (dsimp only; omega)) ?_
          obtain ⟨hF1, hF2⟩ := dx_r2 hF
          subst hF1
          subst hF2
          exact cl_ri S V hr hlocks rfl dX0_meet_30
theorem cd_X0_isContact : yX0_isContact.cls ≠ "java/lang/invoke/MethodHandle" ∧ yX0_isContact.cls ≠ "java/lang/invoke/VarHandle" ∧ (parseMethodDescriptor yX0_isContact.desc).map (fun d => d.parameters.length) = some 1 := by decide +kernel
set_option maxHeartbeats 4000000 in
set_option maxRecDepth 100000 in
theorem cm_X0_isContact (l : Launch) (D : va_G) (dA : Nat → ClassId) (ad0 : Nat → Nat) (A : Nat → Prop) (a0 : Nat) (o0 : Nat) (p0 : Int32) (σ0 : cl_S) (r : Bool) (e0 : cl_at ad0 σ0 a0 o0) (hF : cl_X0_isContact o0 σ0 p0 = some r) : cl_Ci l yX0_isContact cX0_isContact 2 .boolean ({ frames := 1, cells := 0, slots := 0, locals := 25 }) D dA ad0 A [.ref a0, .int p0] σ0 (dx_bI r) σ0 := by
  refine cl_in RX0 rfl (by decide) (Nat.le_of_ble_eq_true rfl) ?_
  intro p e s m below meth c ls S hr hlocks hini hv hl
  have hx := S.1
  have hb := S.2.1
  have hown := S.2.2.2.1
  have hts := S.2.2.2.2
  obtain ⟨hN, hK, hP, hD, hA, hZ⟩ := hv
  have V : cl_V D dA (ad0, cl_n σ0) ad0 A s.heap σ0 s s.heap [] := ⟨hN, hK, hP, hD, va_S.rf, hA, hZ, fun _ _ => rfl, Nat.le_refl _⟩
  obtain ⟨ad, V, e0⟩ : ∃ ad, cl_V D dA (ad0, cl_n σ0) ad A s.heap σ0 s s.heap [] ∧ cl_at ad σ0 a0 o0 := ⟨ad0, V, e0⟩
  replace hl : lv_has ls 2 [(0, .ref a0), (1, .int p0)] := hl
  unfold cl_X0_isContact at hF
  refine lv_iload_n hx hb dX0_isContact_0 rfl (lv_at hl 1 rfl) ?_
  refine lv_i2l hx hb dX0_isContact_1 rfl ?_
  refine lv_lconst (v := 0) hx hb dX0_isContact_2 (by decide) ?_
  refine lv_aload_n hx hb dX0_isContact_3 rfl (lv_at hl 0 rfl) ?_
  obtain ⟨hg, hF⟩ := dx_gd_some hF
  have k1 := of_decide_eq_true hg
  obtain ⟨hg, hF⟩ := dx_gd_some hF
  refine cl_gr S V e0 k1 rfl (by decide) in_X0 4 (by decide) rfl q272 rfl dX0_isContact_4 (of_decide_eq_true hg) (fun bb2 ee2 => ?_)
  obtain ⟨hg, hF⟩ := dx_gd_some hF
  have k3 := of_decide_eq_true hg
  refine cl_gi S V ee2 k3 rfl (by decide) in_X2 1 (by decide) rfl q157 rfl dX0_isContact_7 ?_
  refine lv_iconst (v := 1) hx hb dX0_isContact_10 (by decide) ?_
  refine lv_isub hx hb dX0_isContact_11 ?_
  refine lv_i2l hx hb dX0_isContact_12 rfl ?_
  obtain ⟨r4, h4c, hF⟩ := dx_b1_some hF
  refine dx_cPi S [.long p0.toInt64, .long (0 : Int64), .long (((cl_i σ0 (cl_r σ0 o0 4) 1) - (1 : Int32)).toInt64)] (cm_X0_isIn l p0.toInt64 (0 : Int64) (((cl_i σ0 (cl_r σ0 o0 4) 1) - (1 : Int32)).toInt64) _ h4c) (va_cwS 3 hts (lw_S q402 q403 q77 q404) rfl rfl rfl cd_X0_isIn ⟨Nat.le_of_ble_eq_true rfl, Nat.le_of_ble_eq_true rfl⟩) rfl rfl hl.1 (Nat.le_of_ble_eq_true rfl) dX0_isContact_13 ⟨Nat.le_of_ble_eq_true rfl, Nat.le_of_ble_eq_true rfl⟩ ?_
  replace hF := Option.some.inj hF
  subst hF
  exact cl_ri S V hr hlocks (dx_bI_nar _) dX0_isContact_16
theorem cd_X0_part : yX0_part.cls ≠ "java/lang/invoke/MethodHandle" ∧ yX0_part.cls ≠ "java/lang/invoke/VarHandle" ∧ (parseMethodDescriptor yX0_part.desc).map (fun d => d.parameters.length) = some 1 := by decide +kernel
set_option maxHeartbeats 4000000 in
set_option maxRecDepth 100000 in
theorem cm_X0_part (l : Launch) (D : va_G) (dA : Nat → ClassId) (ad0 : Nat → Nat) (A : Nat → Prop) (a0 : Nat) (o0 : Nat) (p0 : Int32) (σ0 : cl_S) (r : Int32) (σ' : cl_S) (e0 : cl_at ad0 σ0 a0 o0) (hF : cl_X0_part o0 σ0 p0 = some (r, σ')) : cl_Ci l yX0_part cX0_part 3 .int ({ frames := 3, cells := 7, slots := 67, locals := 69 }) D dA ad0 A [.ref a0, .int p0] σ0 r σ' := by
  refine cl_in RX0 rfl (by decide) (Nat.le_of_ble_eq_true rfl) ?_
  intro p e s m below meth c ls S hr hlocks hini hv hl
  have hx := S.1
  have hb := S.2.1
  have hown := S.2.2.2.1
  have hts := S.2.2.2.2
  obtain ⟨hN, hK, hP, hD, hA, hZ⟩ := hv
  have V : cl_V D dA (ad0, cl_n σ0) ad0 A s.heap σ0 s s.heap [] := ⟨hN, hK, hP, hD, va_S.rf, hA, hZ, fun _ _ => rfl, Nat.le_refl _⟩
  obtain ⟨ad, V, e0⟩ : ∃ ad, cl_V D dA (ad0, cl_n σ0) ad A s.heap σ0 s s.heap [] ∧ cl_at ad σ0 a0 o0 := ⟨ad0, V, e0⟩
  replace hl : lv_has ls 3 [(0, .ref a0), (1, .int p0)] := hl
  unfold cl_X0_part at hF
  have hL30 : ∀  (n : Nat) (v2 : Int32) (σ : cl_S) (ad : Nat → Nat) (H : Heap) (locs : List Loc) (ls : Array Slot), dx_lp (fun x => cl_X0_part_L30 o0 x.2 x.1) n (v2, σ) = some (r, σ') → cl_at ad σ a0 o0 → cl_V D dA (ad0, cl_n σ0) ad A s.heap σ s H locs → lv_has ls 3 [(0, .ref a0), (2, .int v2)] → W p l e ({ frames := 3, cells := 7, slots := 67, locals := 69 }) s m ([.ref a0, .int p0] : List Value).toArray below meth c H locs 7 67 (MQ below (cl_Qi D dA ad0 A σ0 σ' r) ([.ref a0, .int p0] : List Value).toArray s 7 67 A) (F0 m 30 ls []) := by
    intro n
    induction n with
    | zero =>
      intro v2 σ ad H locs ls hF e0 V hl
      exact (dx_lp_0 hF).elim
    | succ n ih30 =>
      intro v2 σ ad H locs ls hF e0 V hl
      obtain ⟨y30, hF, hz30⟩ := dx_lp_s hF
      replace hF : cl_X0_part_L30 o0 σ v2 = some y30 := hF
      unfold cl_X0_part_L30 at hF
      refine lv_iload_n hx hb dX0_part_30 rfl (lv_at hl 1 rfl) ?_
      refine lv_aload_n hx hb dX0_part_31 rfl (lv_at hl 0 rfl) ?_
      obtain ⟨hg, hF⟩ := dx_gd_some hF
      have k8 := of_decide_eq_true hg
      obtain ⟨hg, hF⟩ := dx_gd_some hF
      refine cl_gr S V e0 k8 rfl (by decide) in_X0 4 (by decide) rfl q272 rfl dX0_part_32 (of_decide_eq_true hg) (fun bb9 ee9 => ?_)
      obtain ⟨hg, hF⟩ := dx_gd_some hF
      have k10 := of_decide_eq_true hg
      refine cl_gi S V ee9 k10 rfl (by decide) in_X2 1 (by decide) rfl q157 rfl dX0_part_35 ?_
      refine lv_icmp_ge (tgt := 107) hx hb dX0_part_38 (by decide) (fun hc => ?_) (fun hc => ?_)
      · replace hF := (if_pos hc).symm.trans hF
        replace hF := dx_ex_k hF hz30
        refine lv_aload_n hx hb dX0_part_107 rfl (lv_at hl 0 rfl) ?_
        obtain ⟨hg, hF⟩ := dx_gd_some hF
        refine cl_gr S V e0 k8 rfl (by decide) in_X0 4 (by decide) rfl q272 rfl dX0_part_108 (of_decide_eq_true hg) (fun bb11 ee11 => ?_)
        refine cl_gi S V ee11 k10 rfl (by decide) in_X2 1 (by decide) rfl q157 rfl dX0_part_111 ?_
        refine W.widen (k := 7) (n := 67) (by first | omega | (dsimp only; omega)) (by first | omega | (dsimp only; omega)) ?_
        obtain ⟨hF1, hF2⟩ := dx_r2 hF
        subst hF1
        subst hF2
        exact cl_ri S V hr hlocks rfl dX0_part_114
      · replace hF := (if_neg hc).symm.trans hF
        refine lv_aload_n hx hb dX0_part_41 rfl (lv_at hl 0 rfl) ?_
        obtain ⟨hg, hF⟩ := dx_gd_some hF
        refine cl_gr S V e0 k8 rfl (by decide) in_X0 4 (by decide) rfl q272 rfl dX0_part_42 (of_decide_eq_true hg) (fun bb12 ee12 => ?_)
        obtain ⟨hg, hF⟩ := dx_gd_some hF
        refine cl_gr S V ee12 k10 rfl (by decide) in_X2 6 (by decide) rfl q174 rfl dX0_part_45 (of_decide_eq_true hg) (fun bb13 ee13 => ?_)
        refine lv_iload_n hx hb dX0_part_48 rfl (lv_at hl 1 rfl) ?_
        refine lv_aload_n hx hb dX0_part_49 rfl (lv_at hl 0 rfl) ?_
        obtain ⟨hg, hF⟩ := dx_gd_some hF
        refine cl_gr S V e0 k8 rfl (by decide) in_X0 4 (by decide) rfl q272 rfl dX0_part_50 (of_decide_eq_true hg) (fun bb14 ee14 => ?_)
        obtain ⟨hg, hF⟩ := dx_gd_some hF
        refine cl_gr S V ee14 k10 rfl (by decide) in_X2 6 (by decide) rfl q174 rfl dX0_part_53 (of_decide_eq_true hg) (fun bb15 ee15 => ?_)
        refine lv_iload_n hx hb dX0_part_56 rfl (lv_at hl 1 rfl) ?_
        refine lv_iconst (v := 1) hx hb dX0_part_57 (by decide) ?_
        refine lv_iadd hx hb dX0_part_58 ?_
        obtain ⟨hg, hF⟩ := dx_gd_some hF
        have k16 := of_decide_eq_true hg
        obtain ⟨hg, hF⟩ := dx_gd_some hF
        refine cl_ld S V ee15 k16 (dx_inb_in hg) dX0_part_59 ?_
        obtain ⟨hg, hF⟩ := dx_gd_some hF
        refine cl_st S V ee13 k16 (dx_inb_in hg) dX0_part_60 (fun _ _ V => ?_)
        obtain ⟨σ17, eσ17⟩ : ∃ x, x = (cl_wi σ (cl_r σ (cl_r σ o0 4) 6) v2.toNatClampNeg (cl_i σ (cl_r σ (cl_r σ o0 4) 6) (v2 + (1 : Int32)).toNatClampNeg)) := ⟨_, rfl⟩
        rw [← eσ17] at V
        replace hF := dx_let_e eσ17 hF
        replace e0 : cl_at ad σ17 a0 o0 := by rw [eσ17]; exact e0
        replace k8 : cl_k σ17 o0 = 0 := by rw [eσ17]; exact k8
        replace k10 : cl_k σ17 (cl_r σ o0 4) = 2 := by rw [eσ17]; exact k10
        replace k16 : cl_k σ17 (cl_r σ (cl_r σ o0 4) 6) = 20 := by rw [eσ17]; exact k16
        refine lv_aload_n hx hb dX0_part_61 rfl (lv_at hl 0 rfl) ?_
        obtain ⟨hg, hF⟩ := dx_gd_some hF
        refine cl_gr S V e0 k8 rfl (by decide) in_X0 4 (by decide) rfl q272 rfl dX0_part_62 (of_decide_eq_true hg) (fun bb18 ee18 => ?_)
        obtain ⟨hg, hF⟩ := dx_gd_some hF
        have k19 := of_decide_eq_true hg
        obtain ⟨hg, hF⟩ := dx_gd_some hF
        refine cl_gr S V ee18 k19 rfl (by decide) in_X2 7 (by decide) rfl q178 rfl dX0_part_65 (of_decide_eq_true hg) (fun bb20 ee20 => ?_)
        refine lv_iload_n hx hb dX0_part_68 rfl (lv_at hl 1 rfl) ?_
        refine lv_aload_n hx hb dX0_part_69 rfl (lv_at hl 0 rfl) ?_
        obtain ⟨hg, hF⟩ := dx_gd_some hF
        refine cl_gr S V e0 k8 rfl (by decide) in_X0 4 (by decide) rfl q272 rfl dX0_part_70 (of_decide_eq_true hg) (fun bb21 ee21 => ?_)
        obtain ⟨hg, hF⟩ := dx_gd_some hF
        refine cl_gr S V ee21 k19 rfl (by decide) in_X2 7 (by decide) rfl q178 rfl dX0_part_73 (of_decide_eq_true hg) (fun bb22 ee22 => ?_)
        refine lv_iload_n hx hb dX0_part_76 rfl (lv_at hl 1 rfl) ?_
        refine lv_iconst (v := 1) hx hb dX0_part_77 (by decide) ?_
        refine lv_iadd hx hb dX0_part_78 ?_
        obtain ⟨hg, hF⟩ := dx_gd_some hF
        have k23 := of_decide_eq_true hg
        obtain ⟨hg, hF⟩ := dx_gd_some hF
        refine cl_ld S V ee22 k23 (dx_inb_in hg) dX0_part_79 ?_
        obtain ⟨hg, hF⟩ := dx_gd_some hF
        refine cl_st S V ee20 k23 (dx_inb_in hg) dX0_part_80 (fun _ _ V => ?_)
        obtain ⟨σ24, eσ24⟩ : ∃ x, x = (cl_wi σ17 (cl_r σ17 (cl_r σ17 o0 4) 7) v2.toNatClampNeg (cl_i σ17 (cl_r σ17 (cl_r σ17 o0 4) 7) (v2 + (1 : Int32)).toNatClampNeg)) := ⟨_, rfl⟩
        rw [← eσ24] at V
        replace hF := dx_let_e eσ24 hF
        replace e0 : cl_at ad σ24 a0 o0 := by rw [eσ24]; exact e0
        replace k8 : cl_k σ24 o0 = 0 := by rw [eσ24]; exact k8
        replace k10 : cl_k σ24 (cl_r σ o0 4) = 2 := by rw [eσ24]; exact k10
        replace k16 : cl_k σ24 (cl_r σ (cl_r σ o0 4) 6) = 20 := by rw [eσ24]; exact k16
        replace k19 : cl_k σ24 (cl_r σ17 o0 4) = 2 := by rw [eσ24]; exact k19
        replace k23 : cl_k σ24 (cl_r σ17 (cl_r σ17 o0 4) 7) = 20 := by rw [eσ24]; exact k23
        refine lv_aload_n hx hb dX0_part_81 rfl (lv_at hl 0 rfl) ?_
        obtain ⟨hg, hF⟩ := dx_gd_some hF
        refine cl_gr S V e0 k8 rfl (by decide) in_X0 4 (by decide) rfl q272 rfl dX0_part_82 (of_decide_eq_true hg) (fun bb25 ee25 => ?_)
        obtain ⟨hg, hF⟩ := dx_gd_some hF
        have k26 := of_decide_eq_true hg
        obtain ⟨hg, hF⟩ := dx_gd_some hF
        refine cl_gr S V ee25 k26 rfl (by decide) in_X2 8 (by decide) rfl q183 rfl dX0_part_85 (of_decide_eq_true hg) (fun bb27 ee27 => ?_)
        refine lv_iload_n hx hb dX0_part_88 rfl (lv_at hl 1 rfl) ?_
        refine lv_aload_n hx hb dX0_part_89 rfl (lv_at hl 0 rfl) ?_
        obtain ⟨hg, hF⟩ := dx_gd_some hF
        refine cl_gr S V e0 k8 rfl (by decide) in_X0 4 (by decide) rfl q272 rfl dX0_part_90 (of_decide_eq_true hg) (fun bb28 ee28 => ?_)
        obtain ⟨hg, hF⟩ := dx_gd_some hF
        refine cl_gr S V ee28 k26 rfl (by decide) in_X2 8 (by decide) rfl q183 rfl dX0_part_93 (of_decide_eq_true hg) (fun bb29 ee29 => ?_)
        refine lv_iload_n hx hb dX0_part_96 rfl (lv_at hl 1 rfl) ?_
        refine lv_iconst (v := 1) hx hb dX0_part_97 (by decide) ?_
        refine lv_iadd hx hb dX0_part_98 ?_
        obtain ⟨hg, hF⟩ := dx_gd_some hF
        have k30 := of_decide_eq_true hg
        obtain ⟨hg, hF⟩ := dx_gd_some hF
        refine cl_ld S V ee29 k30 (dx_inb_in hg) dX0_part_99 ?_
        obtain ⟨hg, hF⟩ := dx_gd_some hF
        refine cl_st S V ee27 k30 (dx_inb_in hg) dX0_part_100 (fun _ _ V => ?_)
        obtain ⟨σ31, eσ31⟩ : ∃ x, x = (cl_wi σ24 (cl_r σ24 (cl_r σ24 o0 4) 8) v2.toNatClampNeg (cl_i σ24 (cl_r σ24 (cl_r σ24 o0 4) 8) (v2 + (1 : Int32)).toNatClampNeg)) := ⟨_, rfl⟩
        rw [← eσ31] at V
        replace hF := dx_let_e eσ31 hF
        replace e0 : cl_at ad σ31 a0 o0 := by rw [eσ31]; exact e0
        replace k8 : cl_k σ31 o0 = 0 := by rw [eσ31]; exact k8
        replace k10 : cl_k σ31 (cl_r σ o0 4) = 2 := by rw [eσ31]; exact k10
        replace k16 : cl_k σ31 (cl_r σ (cl_r σ o0 4) 6) = 20 := by rw [eσ31]; exact k16
        replace k19 : cl_k σ31 (cl_r σ17 o0 4) = 2 := by rw [eσ31]; exact k19
        replace k23 : cl_k σ31 (cl_r σ17 (cl_r σ17 o0 4) 7) = 20 := by rw [eσ31]; exact k23
        replace k26 : cl_k σ31 (cl_r σ24 o0 4) = 2 := by rw [eσ31]; exact k26
        replace k30 : cl_k σ31 (cl_r σ24 (cl_r σ24 o0 4) 8) = 20 := by rw [eσ31]; exact k30
        refine lv_iinc (v := (v2 + (1 : Int32))) (lv' := [(2, .int (v2 + (1 : Int32))), (0, .ref a0)]) hx hb dX0_part_101 hl (k := 1) rfl rfl (by decide) rfl (fun ls hl => ?_)
        refine lv_goto (tgt := 30) hx hb dX0_part_104 (by decide) ?_
        refine W.widen (k := 7) (n := 67) (by first | omega | (dsimp only; omega)) (by first | omega | (dsimp only; omega)) ?_
        replace hF := Option.some.inj hF
        subst hF
        exact ih30 (v2 + (1 : Int32)) σ31 _ _ _ _ (dx_lk_l hz30) e0 V (lv_sub hl [1, 0] rfl)
  refine lv_aload_n hx hb dX0_part_0 rfl (lv_at hl 0 rfl) ?_
  refine lv_iload_n hx hb dX0_part_1 rfl (lv_at hl 1 rfl) ?_
  obtain ⟨hg, hF⟩ := dx_gd_some hF
  have k2 := of_decide_eq_true hg
  obtain ⟨r1, h1c, hF⟩ := dx_b1_some hF
  refine cl_ci (va_runV (As := [.int p0]) S (cm_X0_isContact l D dA _ A a0 o0 p0 σ0 _ e0 h1c) (cwV 1 hts (lw_V q1075 q1077 qs19 q77 q1078) rfl rfl rfl ⟨rfl, cd_X0_isContact⟩ ⟨Nat.le_of_ble_eq_true rfl, Nat.le_of_ble_eq_true rfl⟩) (cl_preV V [.int p0] e0 k2 rfl (by decide)) rfl rfl hl.1 rfl (lv_room (Nat.le_of_ble_eq_true rfl)) dX0_part_2 ⟨Nat.le_of_ble_eq_true rfl, Nat.le_of_ble_eq_true rfl⟩) V (fun ad _ _ hag hle V => ?_)
  replace e0 := e0.mv hag hle
  refine lv_if_ne (tgt := 11) hx hb dX0_part_5 (by decide) (fun hc => ?_) (fun hc => ?_)
  · replace hF := dx_ib_t (dx_bI_n hc) hF
    refine lv_aload_n hx hb dX0_part_11 rfl (lv_at hl 0 rfl) ?_
    obtain ⟨σ3, h3c, hF⟩ := dx_b1_some hF
    refine cl_cv (va_runV (As := []) S (cm_X0_keep l D dA _ A a0 o0  σ0 _ e0 h3c) (cwV 0 hts (lw_V q1067 q1069 qs18 q77 q1070) rfl rfl rfl ⟨rfl, cd_X0_keep⟩ ⟨Nat.le_of_ble_eq_true rfl, Nat.le_of_ble_eq_true rfl⟩) (cl_preV V [] e0 k2 rfl (by decide)) rfl rfl hl.1 rfl (lv_room (Nat.le_of_ble_eq_true rfl)) dX0_part_12 ⟨Nat.le_of_ble_eq_true rfl, Nat.le_of_ble_eq_true rfl⟩) V (fun ad _ _ hag hle V => ?_)
    replace e0 := e0.mv hag hle
    refine lv_aload_n hx hb dX0_part_15 rfl (lv_at hl 0 rfl) ?_
    obtain ⟨hg, hF⟩ := dx_gd_some hF
    have k4 := of_decide_eq_true hg
    obtain ⟨hg, hF⟩ := dx_gd_some hF
    refine cl_gr S V e0 k4 rfl (by decide) in_X0 4 (by decide) rfl q272 rfl dX0_part_16 (of_decide_eq_true hg) (fun bb5 ee5 => ?_)
    refine lv_dup hx hb dX0_part_19 rfl ?_
    obtain ⟨hg, hF⟩ := dx_gd_some hF
    have k6 := of_decide_eq_true hg
    refine cl_gi S V ee5 k6 rfl (by decide) in_X2 1 (by decide) rfl q157 rfl dX0_part_20 ?_
    refine lv_iconst (v := 1) hx hb dX0_part_23 (by decide) ?_
    refine lv_isub hx hb dX0_part_24 ?_
    refine cl_pi S V ee5 k6 rfl (by decide) in_X2 tyX2 tyX2_ok nmX2 1 (by decide) rfl q157 rfl rfl rfl dX0_part_25 (fun _ _ V => ?_)
    obtain ⟨σ7, eσ7⟩ : ∃ x, x = (cl_wi σ3 (cl_r σ3 o0 4) 1 ((cl_i σ3 (cl_r σ3 o0 4) 1) - (1 : Int32))) := ⟨_, rfl⟩
    rw [← eσ7] at V
    replace hF := dx_let_e eσ7 hF
    replace e0 : cl_at ad σ7 a0 o0 := by rw [eσ7]; exact e0
    replace k4 : cl_k σ7 o0 = 0 := by rw [eσ7]; exact k4
    replace k6 : cl_k σ7 (cl_r σ3 o0 4) = 2 := by rw [eσ7]; exact k6
    refine lv_iload_n hx hb dX0_part_28 rfl (lv_at hl 1 rfl) ?_
    refine lv_istore_n (lv' := [(2, .int p0), (0, .ref a0), (1, .int p0)]) hx hb dX0_part_29 rfl hl (by decide) rfl (fun ls hl => ?_)
    refine W.widen (k := 7) (n := 67) (by first | omega | (dsimp only; omega)) (by first | omega | (dsimp only; omega)) ?_
    exact hL30  dx_fu p0 σ7 _ _ _ _ hF e0 V (lv_sub hl [1, 0] rfl)
  · replace hF := dx_ib_f (dx_bI_0 hc) hF
    refine lv_ldc hx hb hown (hts _ q406) dX0_part_8 ?_
    refine W.widen (k := 7) (n := 67) (by first | omega | (dsimp only; omega)) (by first | omega | (dsimp only; omega)) ?_
    obtain ⟨hF1, hF2⟩ := dx_r2 hF
    subst hF1
    subst hF2
    exact cl_ri S V hr hlocks rfl dX0_part_10
theorem cd_X0_date : yX0_date.cls ≠ "java/lang/invoke/MethodHandle" ∧ yX0_date.cls ≠ "java/lang/invoke/VarHandle" ∧ (parseMethodDescriptor yX0_date.desc).map (fun d => d.parameters.length) = some 2 := by decide +kernel
set_option maxHeartbeats 4000000 in
set_option maxRecDepth 100000 in
theorem cm_X0_date (l : Launch) (D : va_G) (dA : Nat → ClassId) (ad0 : Nat → Nat) (A : Nat → Prop) (a0 : Nat) (o0 : Nat) (p0 : Int32) (p1 : Int32) (σ0 : cl_S) (r : Int32) (σ' : cl_S) (e0 : cl_at ad0 σ0 a0 o0) (hF : cl_X0_date o0 σ0 p0 p1 = some (r, σ')) : cl_Ci l yX0_date cX0_date 4 .int ({ frames := 3, cells := 7, slots := 67, locals := 69 }) D dA ad0 A [.ref a0, .int p0, .int p1] σ0 r σ' := by
  refine cl_in RX0 rfl (by decide) (Nat.le_of_ble_eq_true rfl) ?_
  intro p e s m below meth c ls S hr hlocks hini hv hl
  have hx := S.1
  have hb := S.2.1
  have hown := S.2.2.2.1
  have hts := S.2.2.2.2
  obtain ⟨hN, hK, hP, hD, hA, hZ⟩ := hv
  have V : cl_V D dA (ad0, cl_n σ0) ad0 A s.heap σ0 s s.heap [] := ⟨hN, hK, hP, hD, va_S.rf, hA, hZ, fun _ _ => rfl, Nat.le_refl _⟩
  obtain ⟨ad, V, e0⟩ : ∃ ad, cl_V D dA (ad0, cl_n σ0) ad A s.heap σ0 s s.heap [] ∧ cl_at ad σ0 a0 o0 := ⟨ad0, V, e0⟩
  replace hl : lv_has ls 4 [(0, .ref a0), (1, .int p0), (2, .int p1)] := hl
  unfold cl_X0_date at hF
  refine lv_aload_n hx hb dX0_date_0 rfl (lv_at hl 0 rfl) ?_
  refine lv_iload_n hx hb dX0_date_1 rfl (lv_at hl 1 rfl) ?_
  obtain ⟨hg, hF⟩ := dx_gd_some hF
  have k2 := of_decide_eq_true hg
  obtain ⟨r1, h1c, hF⟩ := dx_b1_some hF
  refine cl_ci (va_runV (As := [.int p0]) S (cm_X0_isContact l D dA _ A a0 o0 p0 σ0 _ e0 h1c) (cwV 1 hts (lw_V q1075 q1077 qs19 q77 q1078) rfl rfl rfl ⟨rfl, cd_X0_isContact⟩ ⟨Nat.le_of_ble_eq_true rfl, Nat.le_of_ble_eq_true rfl⟩) (cl_preV V [.int p0] e0 k2 rfl (by decide)) rfl rfl hl.1 rfl (lv_room (Nat.le_of_ble_eq_true rfl)) dX0_date_2 ⟨Nat.le_of_ble_eq_true rfl, Nat.le_of_ble_eq_true rfl⟩) V (fun ad _ _ hag hle V => ?_)
  replace e0 := e0.mv hag hle
  refine lv_if_eq (tgt := 15) hx hb dX0_date_5 (by decide) (fun hc => ?_) (fun hc => ?_)
  · replace hF := dx_ib_f (dx_bI_0 hc) hF
    refine lv_ldc hx hb hown (hts _ q406) dX0_date_15 ?_
    refine W.widen (k := 7) (n := 67) (by first | omega | (dsimp only; omega)) (by first | omega | (dsimp only; omega)) ?_
    obtain ⟨hF1, hF2⟩ := dx_r2 hF
    subst hF1
    subst hF2
    exact cl_ri S V hr hlocks rfl dX0_date_17
  · replace hF := dx_ib_t (dx_bI_n hc) hF
    refine lv_iload_n hx hb dX0_date_8 rfl (lv_at hl 2 rfl) ?_
    obtain ⟨r3, h3c, hF⟩ := dx_b1_some hF
    refine dx_cPi S [.int p1] (cm_X0_isDay l p1 _ h3c) (va_cwS 1 hts (lw_S q1063 q1064 q77 q1065) rfl rfl rfl cd_X0_isDay ⟨Nat.le_of_ble_eq_true rfl, Nat.le_of_ble_eq_true rfl⟩) rfl rfl hl.1 (Nat.le_of_ble_eq_true rfl) dX0_date_9 ⟨Nat.le_of_ble_eq_true rfl, Nat.le_of_ble_eq_true rfl⟩ ?_
    refine lv_if_ne (tgt := 18) hx hb dX0_date_12 (by decide) (fun hc => ?_) (fun hc => ?_)
    · replace hF := dx_ib_t (dx_bI_n hc) hF
      refine lv_aload_n hx hb dX0_date_18 rfl (lv_at hl 0 rfl) ?_
      obtain ⟨hg, hF⟩ := dx_gd_some hF
      refine cl_gr S V e0 k2 rfl (by decide) in_X0 4 (by decide) rfl q272 rfl dX0_date_19 (of_decide_eq_true hg) (fun bb4 ee4 => ?_)
      obtain ⟨hg, hF⟩ := dx_gd_some hF
      have k5 := of_decide_eq_true hg
      obtain ⟨hg, hF⟩ := dx_gd_some hF
      refine cl_gr S V ee4 k5 rfl (by decide) in_X2 8 (by decide) rfl q183 rfl dX0_date_22 (of_decide_eq_true hg) (fun bb6 ee6 => ?_)
      refine lv_iload_n hx hb dX0_date_25 rfl (lv_at hl 1 rfl) ?_
      obtain ⟨hg, hF⟩ := dx_gd_some hF
      have k7 := of_decide_eq_true hg
      obtain ⟨hg, hF⟩ := dx_gd_some hF
      refine cl_ld S V ee6 k7 (dx_inb_in hg) dX0_date_26 ?_
      refine lv_istore_n (lv' := [(3, .int (cl_i σ0 (cl_r σ0 (cl_r σ0 o0 4) 8) p0.toNatClampNeg)), (0, .ref a0), (1, .int p0), (2, .int p1)]) hx hb dX0_date_27 rfl hl (by decide) rfl (fun ls hl => ?_)
      refine lv_iload_n hx hb dX0_date_28 rfl (lv_at hl 0 rfl) ?_
      refine lv_iload_n hx hb dX0_date_29 rfl (lv_at hl 3 rfl) ?_
      refine lv_icmp_ne (tgt := 36) hx hb dX0_date_30 (by decide) (fun hc => ?_) (fun hc => ?_)
      · replace hF := (if_neg hc).symm.trans hF
        refine lv_aload_n hx hb dX0_date_36 rfl (lv_at hl 1 rfl) ?_
        obtain ⟨σ8, h8c, hF⟩ := dx_b1_some hF
        refine cl_cv (va_runV (As := []) S (cm_X0_keep l D dA _ A a0 o0  σ0 _ e0 h8c) (cwV 0 hts (lw_V q1067 q1069 qs18 q77 q1070) rfl rfl rfl ⟨rfl, cd_X0_keep⟩ ⟨Nat.le_of_ble_eq_true rfl, Nat.le_of_ble_eq_true rfl⟩) (cl_preV V [] e0 k2 rfl (by decide)) rfl rfl hl.1 rfl (lv_room (Nat.le_of_ble_eq_true rfl)) dX0_date_37 ⟨Nat.le_of_ble_eq_true rfl, Nat.le_of_ble_eq_true rfl⟩) V (fun ad _ _ hag hle V => ?_)
        replace e0 := e0.mv hag hle
        refine lv_aload_n hx hb dX0_date_40 rfl (lv_at hl 1 rfl) ?_
        obtain ⟨hg, hF⟩ := dx_gd_some hF
        have k9 := of_decide_eq_true hg
        obtain ⟨hg, hF⟩ := dx_gd_some hF
        refine cl_gr S V e0 k9 rfl (by decide) in_X0 4 (by decide) rfl q272 rfl dX0_date_41 (of_decide_eq_true hg) (fun bb10 ee10 => ?_)
        obtain ⟨hg, hF⟩ := dx_gd_some hF
        have k11 := of_decide_eq_true hg
        obtain ⟨hg, hF⟩ := dx_gd_some hF
        refine cl_gr S V ee10 k11 rfl (by decide) in_X2 8 (by decide) rfl q183 rfl dX0_date_44 (of_decide_eq_true hg) (fun bb12 ee12 => ?_)
        refine lv_iload_n hx hb dX0_date_47 rfl (lv_at hl 2 rfl) ?_
        refine lv_iload_n hx hb dX0_date_48 rfl (lv_at hl 3 rfl) ?_
        obtain ⟨hg, hF⟩ := dx_gd_some hF
        have k13 := of_decide_eq_true hg
        obtain ⟨hg, hF⟩ := dx_gd_some hF
        refine cl_st S V ee12 k13 (dx_inb_in hg) dX0_date_49 (fun _ _ V => ?_)
        obtain ⟨σ14, eσ14⟩ : ∃ x, x = (cl_wi σ8 (cl_r σ8 (cl_r σ8 o0 4) 8) p0.toNatClampNeg p1) := ⟨_, rfl⟩
        rw [← eσ14] at V
        replace hF := dx_let_e eσ14 hF
        replace e0 : cl_at ad σ14 a0 o0 := by rw [eσ14]; exact e0
        replace k9 : cl_k σ14 o0 = 0 := by rw [eσ14]; exact k9
        replace k11 : cl_k σ14 (cl_r σ8 o0 4) = 2 := by rw [eσ14]; exact k11
        replace k13 : cl_k σ14 (cl_r σ8 (cl_r σ8 o0 4) 8) = 20 := by rw [eσ14]; exact k13
        refine lv_iload_n hx hb dX0_date_50 rfl (lv_at hl 0 rfl) ?_
        refine W.widen (k := 7) (n := 67) (by first | omega | (dsimp only; omega)) (by first | omega | (dsimp only; omega)) ?_
        obtain ⟨hF1, hF2⟩ := dx_r2 hF
        subst hF1
        subst hF2
        exact cl_ri S V hr hlocks rfl dX0_date_51
      · replace hF := (if_pos hc).symm.trans hF
        refine lv_ldc hx hb hown (hts _ q1083) dX0_date_33 ?_
        refine W.widen (k := 7) (n := 67) (by first | omega | (dsimp only; omega)) (by first | omega | (dsimp only; omega)) ?_
        obtain ⟨hF1, hF2⟩ := dx_r2 hF
        subst hF1
        subst hF2
        exact cl_ri S V hr hlocks rfl dX0_date_35
    · replace hF := dx_ib_f (dx_bI_0 hc) hF
      refine lv_ldc hx hb hown (hts _ q406) dX0_date_15 ?_
      refine W.widen (k := 7) (n := 67) (by first | omega | (dsimp only; omega)) (by first | omega | (dsimp only; omega)) ?_
      obtain ⟨hF1, hF2⟩ := dx_r2 hF
      subst hF1
      subst hF2
      exact cl_ri S V hr hlocks rfl dX0_date_17
theorem cd_X0_ill : yX0_ill.cls ≠ "java/lang/invoke/MethodHandle" ∧ yX0_ill.cls ≠ "java/lang/invoke/VarHandle" ∧ (parseMethodDescriptor yX0_ill.desc).map (fun d => d.parameters.length) = some 2 := by decide +kernel
set_option maxHeartbeats 4000000 in
set_option maxRecDepth 100000 in
theorem cm_X0_ill (l : Launch) (D : va_G) (dA : Nat → ClassId) (ad0 : Nat → Nat) (A : Nat → Prop) (a0 : Nat) (o0 : Nat) (p0 : Int32) (p1 : Int32) (σ0 : cl_S) (r : Int32) (σ' : cl_S) (e0 : cl_at ad0 σ0 a0 o0) (hF : cl_X0_ill o0 σ0 p0 p1 = some (r, σ')) : cl_Ci l yX0_ill cX0_ill 4 .int ({ frames := 3, cells := 7, slots := 67, locals := 69 }) D dA ad0 A [.ref a0, .int p0, .int p1] σ0 r σ' := by
  refine cl_in RX0 rfl (by decide) (Nat.le_of_ble_eq_true rfl) ?_
  intro p e s m below meth c ls S hr hlocks hini hv hl
  have hx := S.1
  have hb := S.2.1
  have hown := S.2.2.2.1
  have hts := S.2.2.2.2
  obtain ⟨hN, hK, hP, hD, hA, hZ⟩ := hv
  have V : cl_V D dA (ad0, cl_n σ0) ad0 A s.heap σ0 s s.heap [] := ⟨hN, hK, hP, hD, va_S.rf, hA, hZ, fun _ _ => rfl, Nat.le_refl _⟩
  obtain ⟨ad, V, e0⟩ : ∃ ad, cl_V D dA (ad0, cl_n σ0) ad A s.heap σ0 s s.heap [] ∧ cl_at ad σ0 a0 o0 := ⟨ad0, V, e0⟩
  replace hl : lv_has ls 4 [(0, .ref a0), (1, .int p0), (2, .int p1)] := hl
  unfold cl_X0_ill at hF
  have hJ23 : ∀ (σ : cl_S) (v1 : Int32) (v2 : Int32) (ad : Nat → Nat) (H : Heap) (locs : List Loc) (ls : Array Slot), cl_X0_ill_J23 o0 σ v1 v2 = some (r, σ') → cl_at ad σ a0 o0 → cl_V D dA (ad0, cl_n σ0) ad A s.heap σ s H locs → lv_has ls 4 [(0, .ref a0), (1, .int v1), (2, .int v2)] → W p l e ({ frames := 3, cells := 7, slots := 67, locals := 69 }) s m ([.ref a0, .int p0, .int p1] : List Value).toArray below meth c H locs 0 0 (MQ below (cl_Qi D dA ad0 A σ0 σ' r) ([.ref a0, .int p0, .int p1] : List Value).toArray s 7 67 A) (F0 m 23 ls []) := by
    intro σ v1 v2 ad H locs ls hF e0 V hl
    unfold cl_X0_ill_J23 at hF
    refine lv_aload_n hx hb dX0_ill_23 rfl (lv_at hl 0 rfl) ?_
    obtain ⟨hg, hF⟩ := dx_gd_some hF
    have k3 := of_decide_eq_true hg
    obtain ⟨hg, hF⟩ := dx_gd_some hF
    refine cl_gr S V e0 k3 rfl (by decide) in_X0 4 (by decide) rfl q272 rfl dX0_ill_24 (of_decide_eq_true hg) (fun bb4 ee4 => ?_)
    obtain ⟨hg, hF⟩ := dx_gd_some hF
    have k5 := of_decide_eq_true hg
    obtain ⟨hg, hF⟩ := dx_gd_some hF
    refine cl_gr S V ee4 k5 rfl (by decide) in_X2 5 (by decide) rfl q169 rfl dX0_ill_27 (of_decide_eq_true hg) (fun bb6 ee6 => ?_)
    refine lv_iload_n hx hb dX0_ill_30 rfl (lv_at hl 1 rfl) ?_
    obtain ⟨hg, hF⟩ := dx_gd_some hF
    have k7 := of_decide_eq_true hg
    obtain ⟨hg, hF⟩ := dx_gd_some hF
    refine cl_ld S V ee6 k7 (dx_inb_in hg) dX0_ill_31 ?_
    refine lv_istore_n (lv' := [(3, .int (cl_i σ (cl_r σ (cl_r σ o0 4) 5) v1.toNatClampNeg)), (0, .ref a0), (1, .int v1), (2, .int v2)]) hx hb dX0_ill_32 rfl hl (by decide) rfl (fun ls hl => ?_)
    refine lv_iload_n hx hb dX0_ill_33 rfl (lv_at hl 0 rfl) ?_
    refine lv_iload_n hx hb dX0_ill_34 rfl (lv_at hl 3 rfl) ?_
    refine lv_icmp_ne (tgt := 41) hx hb dX0_ill_35 (by decide) (fun hc => ?_) (fun hc => ?_)
    · replace hF := (if_neg hc).symm.trans hF
      refine lv_aload_n hx hb dX0_ill_41 rfl (lv_at hl 1 rfl) ?_
      obtain ⟨σ8, h8c, hF⟩ := dx_b1_some hF
      refine cl_cv (va_runV (As := []) S (cm_X0_keep l D dA _ A a0 o0  σ _ e0 h8c) (cwV 0 hts (lw_V q1067 q1069 qs18 q77 q1070) rfl rfl rfl ⟨rfl, cd_X0_keep⟩ ⟨Nat.le_of_ble_eq_true rfl, Nat.le_of_ble_eq_true rfl⟩) (cl_preV V [] e0 k3 rfl (by decide)) rfl rfl hl.1 rfl (lv_room (Nat.le_of_ble_eq_true rfl)) dX0_ill_42 ⟨Nat.le_of_ble_eq_true rfl, Nat.le_of_ble_eq_true rfl⟩) V (fun ad _ _ hag hle V => ?_)
      replace e0 := e0.mv hag hle
      refine lv_aload_n hx hb dX0_ill_45 rfl (lv_at hl 1 rfl) ?_
      obtain ⟨hg, hF⟩ := dx_gd_some hF
      have k9 := of_decide_eq_true hg
      obtain ⟨hg, hF⟩ := dx_gd_some hF
      refine cl_gr S V e0 k9 rfl (by decide) in_X0 4 (by decide) rfl q272 rfl dX0_ill_46 (of_decide_eq_true hg) (fun bb10 ee10 => ?_)
      obtain ⟨hg, hF⟩ := dx_gd_some hF
      have k11 := of_decide_eq_true hg
      obtain ⟨hg, hF⟩ := dx_gd_some hF
      refine cl_gr S V ee10 k11 rfl (by decide) in_X2 5 (by decide) rfl q169 rfl dX0_ill_49 (of_decide_eq_true hg) (fun bb12 ee12 => ?_)
      refine lv_iload_n hx hb dX0_ill_52 rfl (lv_at hl 2 rfl) ?_
      refine lv_iload_n hx hb dX0_ill_53 rfl (lv_at hl 3 rfl) ?_
      obtain ⟨hg, hF⟩ := dx_gd_some hF
      have k13 := of_decide_eq_true hg
      obtain ⟨hg, hF⟩ := dx_gd_some hF
      refine cl_st S V ee12 k13 (dx_inb_in hg) dX0_ill_54 (fun _ _ V => ?_)
      obtain ⟨σ14, eσ14⟩ : ∃ x, x = (cl_wi σ8 (cl_r σ8 (cl_r σ8 o0 4) 5) v1.toNatClampNeg v2) := ⟨_, rfl⟩
      rw [← eσ14] at V
      replace hF := dx_let_e eσ14 hF
      replace e0 : cl_at ad σ14 a0 o0 := by rw [eσ14]; exact e0
      replace k9 : cl_k σ14 o0 = 0 := by rw [eσ14]; exact k9
      replace k11 : cl_k σ14 (cl_r σ8 o0 4) = 2 := by rw [eσ14]; exact k11
      replace k13 : cl_k σ14 (cl_r σ8 (cl_r σ8 o0 4) 5) = 20 := by rw [eσ14]; exact k13
      refine lv_iload_n hx hb dX0_ill_55 rfl (lv_at hl 0 rfl) ?_
      refine W.widen (k := 7) (n := 67) (by first | omega | (dsimp only; omega)) (by first | omega | (dsimp only; omega)) ?_
      obtain ⟨hF1, hF2⟩ := dx_r2 hF
      subst hF1
      subst hF2
      exact cl_ri S V hr hlocks rfl dX0_ill_56
    · replace hF := (if_pos hc).symm.trans hF
      refine lv_ldc hx hb hown (hts _ q1083) dX0_ill_38 ?_
      refine W.widen (k := 7) (n := 67) (by first | omega | (dsimp only; omega)) (by first | omega | (dsimp only; omega)) ?_
      obtain ⟨hF1, hF2⟩ := dx_r2 hF
      subst hF1
      subst hF2
      exact cl_ri S V hr hlocks rfl dX0_ill_40
  refine lv_aload_n hx hb dX0_ill_0 rfl (lv_at hl 0 rfl) ?_
  refine lv_iload_n hx hb dX0_ill_1 rfl (lv_at hl 1 rfl) ?_
  obtain ⟨hg, hF⟩ := dx_gd_some hF
  have k2 := of_decide_eq_true hg
  obtain ⟨r1, h1c, hF⟩ := dx_b1_some hF
  refine cl_ci (va_runV (As := [.int p0]) S (cm_X0_isPerson l D dA _ A a0 o0 p0 σ0 _ e0 h1c) (cwV 1 hts (lw_V q1059 q1061 qs17 q77 q1062) rfl rfl rfl ⟨rfl, cd_X0_isPerson⟩ ⟨Nat.le_of_ble_eq_true rfl, Nat.le_of_ble_eq_true rfl⟩) (cl_preV V [.int p0] e0 k2 rfl (by decide)) rfl rfl hl.1 rfl (lv_room (Nat.le_of_ble_eq_true rfl)) dX0_ill_2 ⟨Nat.le_of_ble_eq_true rfl, Nat.le_of_ble_eq_true rfl⟩) V (fun ad _ _ hag hle V => ?_)
  replace e0 := e0.mv hag hle
  refine lv_if_eq (tgt := 20) hx hb dX0_ill_5 (by decide) (fun hc => ?_) (fun hc => ?_)
  · replace hF := dx_ib_f (dx_bI_0 hc) hF
    refine lv_ldc hx hb hown (hts _ q406) dX0_ill_20 ?_
    refine W.widen (k := 7) (n := 67) (by first | omega | (dsimp only; omega)) (by first | omega | (dsimp only; omega)) ?_
    obtain ⟨hF1, hF2⟩ := dx_r2 hF
    subst hF1
    subst hF2
    exact cl_ri S V hr hlocks rfl dX0_ill_22
  · replace hF := dx_ib_t (dx_bI_n hc) hF
    refine lv_iload_n hx hb dX0_ill_8 rfl (lv_at hl 2 rfl) ?_
    refine lv_iconst (v := (-1)) hx hb dX0_ill_9 (by decide) ?_
    refine lv_icmp_eq (tgt := 23) hx hb dX0_ill_10 (by decide) (fun hc => ?_) (fun hc => ?_)
    · replace hF := (if_pos hc).symm.trans hF
      refine W.widen (k := 0) (n := 0) (by first | omega | (dsimp only; omega)) (by first | omega | (dsimp only; omega)) ?_
      exact hJ23 σ0 p0 p1 _ _ _ _ hF e0 V (lv_sub hl [0, 1, 2] rfl)
    · replace hF := (if_neg hc).symm.trans hF
      refine lv_iload_n hx hb dX0_ill_13 rfl (lv_at hl 2 rfl) ?_
      obtain ⟨r15, h15c, hF⟩ := dx_b1_some hF
      refine dx_cPi S [.int p1] (cm_X0_isDay l p1 _ h15c) (va_cwS 1 hts (lw_S q1063 q1064 q77 q1065) rfl rfl rfl cd_X0_isDay ⟨Nat.le_of_ble_eq_true rfl, Nat.le_of_ble_eq_true rfl⟩) rfl rfl hl.1 (Nat.le_of_ble_eq_true rfl) dX0_ill_14 ⟨Nat.le_of_ble_eq_true rfl, Nat.le_of_ble_eq_true rfl⟩ ?_
      refine lv_if_ne (tgt := 23) hx hb dX0_ill_17 (by decide) (fun hc => ?_) (fun hc => ?_)
      · replace hF := dx_ib_t (dx_bI_n hc) hF
        refine W.widen (k := 0) (n := 0) (by first | omega | (dsimp only; omega)) (by first | omega | (dsimp only; omega)) ?_
        exact hJ23 σ0 p0 p1 _ _ _ _ hF e0 V (lv_sub hl [0, 1, 2] rfl)
      · replace hF := dx_ib_f (dx_bI_0 hc) hF
        refine lv_ldc hx hb hown (hts _ q406) dX0_ill_20 ?_
        refine W.widen (k := 7) (n := 67) (by first | omega | (dsimp only; omega)) (by first | omega | (dsimp only; omega)) ?_
        obtain ⟨hF1, hF2⟩ := dx_r2 hF
        subst hF1
        subst hF2
        exact cl_ri S V hr hlocks rfl dX0_ill_22
theorem cd_X0_isThere : yX0_isThere.cls ≠ "java/lang/invoke/MethodHandle" ∧ yX0_isThere.cls ≠ "java/lang/invoke/VarHandle" ∧ (parseMethodDescriptor yX0_isThere.desc).map (fun d => d.parameters.length) = some 0 := by decide +kernel
set_option maxHeartbeats 4000000 in
set_option maxRecDepth 100000 in
theorem cm_X0_isThere (l : Launch) (D : va_G) (dA : Nat → ClassId) (ad0 : Nat → Nat) (A : Nat → Prop) (a0 : Nat) (o0 : Nat)  (σ0 : cl_S) (r : Bool) (e0 : cl_at ad0 σ0 a0 o0) (hF : cl_X0_isThere o0 σ0 = some r) : cl_Ci l yX0_isThere cX0_isThere 1 .boolean ({ frames := 0, cells := 0, slots := 0, locals := 0 }) D dA ad0 A [.ref a0] σ0 (dx_bI r) σ0 := by
  refine cl_in RX0 rfl (by decide) (Nat.le_of_ble_eq_true rfl) ?_
  intro p e s m below meth c ls S hr hlocks hini hv hl
  have hx := S.1
  have hb := S.2.1
  have hown := S.2.2.2.1
  have hts := S.2.2.2.2
  obtain ⟨hN, hK, hP, hD, hA, hZ⟩ := hv
  have V : cl_V D dA (ad0, cl_n σ0) ad0 A s.heap σ0 s s.heap [] := ⟨hN, hK, hP, hD, va_S.rf, hA, hZ, fun _ _ => rfl, Nat.le_refl _⟩
  obtain ⟨ad, V, e0⟩ : ∃ ad, cl_V D dA (ad0, cl_n σ0) ad A s.heap σ0 s s.heap [] ∧ cl_at ad σ0 a0 o0 := ⟨ad0, V, e0⟩
  replace hl : lv_has ls 1 [(0, .ref a0)] := hl
  unfold cl_X0_isThere at hF
  refine lv_aload_n hx hb dX0_isThere_0 rfl (lv_at hl 0 rfl) ?_
  obtain ⟨hg, hF⟩ := dx_gd_some hF
  have k1 := of_decide_eq_true hg
  obtain ⟨hg, hF⟩ := dx_gd_some hF
  refine cl_gr S V e0 k1 rfl (by decide) in_X0 4 (by decide) rfl q272 rfl dX0_isThere_1 (of_decide_eq_true hg) (fun bb2 ee2 => ?_)
  obtain ⟨hg, hF⟩ := dx_gd_some hF
  have k3 := of_decide_eq_true hg
  refine cl_gi S V ee2 k3 rfl (by decide) in_X2 0 (by decide) rfl q152 rfl dX0_isThere_4 ?_
  refine lv_if_le (tgt := 14) hx hb dX0_isThere_7 (by decide) (fun hc => ?_) (fun hc => ?_)
  · replace hF := (if_pos hc).symm.trans hF
    refine lv_iconst (v := 0) hx hb dX0_isThere_14 (by decide) ?_
    replace hF := Option.some.inj hF
    subst hF
    exact cl_ri S V hr hlocks rfl dX0_isThere_15
  · replace hF := (if_neg hc).symm.trans hF
    refine lv_iconst (v := 1) hx hb dX0_isThere_10 (by decide) ?_
    refine lv_goto (tgt := 15) hx hb dX0_isThere_11 (by decide) ?_
    replace hF := Option.some.inj hF
    subst hF
    exact cl_ri S V hr hlocks rfl dX0_isThere_15
