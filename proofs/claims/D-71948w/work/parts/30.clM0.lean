/-! the class side read back and walked (printed by gen/clmain.py) -/
theorem cd_X1_init : yX1_init.cls ≠ "java/lang/invoke/MethodHandle" ∧ yX1_init.cls ≠ "java/lang/invoke/VarHandle" ∧ (parseMethodDescriptor yX1_init.desc).map (fun d => d.parameters.length) = some 0 := by decide +kernel
set_option maxHeartbeats 4000000 in
set_option maxRecDepth 100000 in
theorem cm_X1_init (l : Launch) (D : va_G) (dA : Nat → ClassId) (ad0 : Nat → Nat) (A : Nat → Prop) (a0 : Nat) (o0 : Nat)  (σ0 : cl_S) (e0 : cl_at ad0 σ0 a0 o0) (hF : cl_X1_init o0 σ0 = some ()) : cl_Cv l yX1_init cX1_init 1 ({ frames := 1, cells := 0, slots := 0, locals := 20 }) D dA ad0 A [.ref a0] σ0 σ0 := by
  refine cl_in RX1 rfl (by decide) (Nat.le_of_ble_eq_true rfl) ?_
  intro p e s m below meth c ls S hr hlocks hini hv hl
  have hx := S.1
  have hb := S.2.1
  have hown := S.2.2.2.1
  have hts := S.2.2.2.2
  obtain ⟨hN, hK, hP, hD, hA, hZ⟩ := hv
  have V : cl_V D dA (ad0, cl_n σ0) ad0 A s.heap σ0 s s.heap [] := ⟨hN, hK, hP, hD, va_S.rf, hA, hZ, fun _ _ => rfl, Nat.le_refl _⟩
  obtain ⟨ad, V, e0⟩ : ∃ ad, cl_V D dA (ad0, cl_n σ0) ad A s.heap σ0 s s.heap [] ∧ cl_at ad σ0 a0 o0 := ⟨ad0, V, e0⟩
  replace hl : lv_has ls 1 [(0, .ref a0)] := hl
  unfold cl_X1_init at hF
  refine lv_aload_n hx hb dX1_init_0 rfl (lv_at hl 0 rfl) ?_
  refine W.objInit hx hb hown (hts _ q134) (hts _ q123) (hts _ q124) rfl (by rw [S.2.2.1]; exact hl.1) rfl dX1_init_1 (Nat.le_of_ble_eq_true rfl) (Nat.le_of_ble_eq_true rfl) ?_
  exact cl_rv S V hr hlocks dX1_init_4
theorem cd_X0_shelves : yX0_shelves.cls ≠ "java/lang/invoke/MethodHandle" ∧ yX0_shelves.cls ≠ "java/lang/invoke/VarHandle" ∧ (parseMethodDescriptor yX0_shelves.desc).map (fun d => d.parameters.length) = some 0 := by decide +kernel
set_option maxHeartbeats 4000000 in
set_option maxRecDepth 100000 in
theorem cm_X0_shelves (l : Launch) (D : va_G) (dA : Nat → ClassId) (ad0 : Nat → Nat) (A : Nat → Prop)    (σ0 : cl_S) (r : Nat) (σ' : cl_S)  (hF : cl_X0_shelves σ0 = some (r, σ')) : cl_Cr l yX0_shelves cX0_shelves 2 (.array (.object "DatedContacts$Shelf")) ({ frames := 2, cells := 10, slots := 17, locals := 40 }) D dA ad0 A [] σ0 r σ' := by
  refine cl_in RX0 rfl (by decide) (Nat.le_of_ble_eq_true rfl) ?_
  intro p e s m below meth c ls S hr hlocks hini hv hl
  have hx := S.1
  have hb := S.2.1
  have hown := S.2.2.2.1
  have hts := S.2.2.2.2
  obtain ⟨hN, hK, hP, hD, hA, hZ⟩ := hv
  have V : cl_V D dA (ad0, cl_n σ0) ad0 A s.heap σ0 s s.heap [] := ⟨hN, hK, hP, hD, va_S.rf, hA, hZ, fun _ _ => rfl, Nat.le_refl _⟩
  obtain ⟨ad, V⟩ : ∃ ad, cl_V D dA (ad0, cl_n σ0) ad A s.heap σ0 s s.heap [] := ⟨ad0, V⟩
  replace hl : lv_has ls 2 [] := hl
  unfold cl_X0_shelves at hF
  have hL8 : ∀ (v0 : Nat) (n : Nat) (v1 : Int32) (σ : cl_S) (ad : Nat → Nat) (b0 : Nat) (hn : n ≤ 9) (H : Heap) (locs : List Loc) (ls : Array Slot), dx_lp (fun x => cl_X0_shelves_L8 x.2 v0 x.1) n (v1, σ) = some (r, σ') → cl_at ad σ b0 v0 → cl_V D dA (ad0, cl_n σ0) ad A s.heap σ s H locs → lv_has ls 2 [(0, .ref b0), (1, .int v1)] → W p l e ({ frames := 2, cells := 10, slots := 17, locals := 40 }) s m ([] : List Value).toArray below meth c H locs (1 + 1 * (9 - n)) (8 + 1 * (9 - n)) (MQ below (cl_Qr D dA ad0 A σ0 σ' r) ([] : List Value).toArray s 10 17 A) (F0 m 8 ls []) := by
    intro v0 n
    induction n with
    | zero =>
      intro v1 σ ad b0 hn H locs ls hF e0 V hl
      exact (dx_lp_0 hF).elim
    | succ n ih8 =>
      intro v1 σ ad b0 hn H locs ls hF e0 V hl
      obtain ⟨y8, hF, hz8⟩ := dx_lp_s hF
      replace hF : cl_X0_shelves_L8 σ v0 v1 = some y8 := hF
      unfold cl_X0_shelves_L8 at hF
      refine lv_iload_n hx hb dX0_shelves_8 rfl (lv_at hl 1 rfl) ?_
      refine lv_bipush (v := 8) hx hb dX0_shelves_9 (by decide) ?_
      refine lv_icmp_ge (tgt := 30) hx hb dX0_shelves_11 (by decide) (fun hc => ?_) (fun hc => ?_)
      · replace hF := (if_pos hc).symm.trans hF
        replace hF := dx_ex_k hF hz8
        refine W.widen (k := 10) (n := 17) (by first | omega | (dsimp only; omega)) (by first | omega | (dsimp only; omega)) ?_
        refine lv_aload_n hx hb dX0_shelves_30 rfl (lv_at hl 0 rfl) ?_
        refine W.widen (k := 10) (n := 17) (by first | omega | (dsimp only; omega)) (by first | omega | (dsimp only; omega)) ?_
        obtain ⟨hF1, hF2⟩ := dx_r2 hF
        subst hF1
        subst hF2
        exact cl_rr S V hr (Or.inr ⟨_, rfl⟩) hlocks e0 dX0_shelves_31
      · replace hF := (if_neg hc).symm.trans hF
        refine lv_aload_n hx hb dX0_shelves_14 rfl (lv_at hl 0 rfl) ?_
        refine lv_iload_n hx hb dX0_shelves_15 rfl (lv_at hl 1 rfl) ?_
        refine cl_new S V rfl (by decide) in_X1 tyX1 tyX1_ok cl_dfX1 q128 q130 q78 (by show _ ≤ 10; first | omega | (dsimp only; omega)) (by show _ ≤ 17; first | omega | (dsimp only; omega)) dX0_shelves_16 (fun bb2 ad _ hag ee2 V => ?_)
        replace e0 := cl_at.nw 1 0 e0 hag
        have k2 : cl_k (cl_nw σ 1 0) (cl_n σ + 1) = 1 := cl_k_nw
        refine lv_dup hx hb dX0_shelves_19 rfl ?_
        obtain ⟨_, h3c, hF⟩ := dx_b1_some hF
        refine cl_cv (va_runIN (As := []) S (cm_X1_init l D dA _ A bb2 (cl_n σ + 1)  (cl_nw σ 1 0)  ee2 h3c) ⟨va_cnB 0 hts (lw_meth q133) rfl rfl rfl (V.1.1 _ cn_q131) (hts _ q78) cd_X1_init ⟨Nat.le_of_ble_eq_true rfl, Nat.le_of_ble_eq_true rfl⟩, rfl, hts _ q132⟩ (cl_preS V [.ref bb2]) rfl rfl hl.1 rfl (lv_room (Nat.le_of_ble_eq_true rfl)) dX0_shelves_20 ⟨by show _ ≤ 10; first | omega | (dsimp only; omega), by show _ ≤ 17; first | omega | (dsimp only; omega)⟩) V (fun ad _ _ hag hle V => ?_)
        replace e0 := e0.mv hag hle
        replace ee2 := ee2.mv hag hle
        obtain ⟨hg, hF⟩ := dx_gd_some hF
        have k4 := of_decide_eq_true hg
        obtain ⟨hi5, hF⟩ := dx_gd_some hF
        refine cl_sa 3 24 S V e0 k4 (by decide) rfl (dx_inb_in hi5) ee2 (cl_anyS V ee2 k2 rfl (by decide)) dX0_shelves_23 (fun _ _ V => ?_)
        obtain ⟨σ6, eσ6⟩ : ∃ x, x = (cl_wr (cl_nw σ 1 0) v0 v1.toNatClampNeg (cl_n σ + 1)) := ⟨_, rfl⟩
        rw [← eσ6] at V
        replace hF := dx_let_e eσ6 hF
        replace e0 : cl_at ad σ6 b0 v0 := by rw [eσ6]; exact e0
        replace k2 : cl_k σ6 (cl_n σ + 1) = 1 := by rw [eσ6]; exact k2
        replace k4 : cl_k σ6 v0 = 24 := by rw [eσ6]; exact k4
        refine lv_iinc (v := (v1 + (1 : Int32))) (lv' := [(1, .int (v1 + (1 : Int32))), (0, .ref b0)]) hx hb dX0_shelves_24 hl (k := 1) rfl rfl (by decide) rfl (fun ls hl => ?_)
        refine lv_goto (tgt := 8) hx hb dX0_shelves_27 (by decide) ?_
        refine W.widen (k := 1 + 1 * (9 - n)) (n := 8 + 1 * (9 - n)) (by first | omega | (dsimp only; omega)) (by first | omega | (dsimp only; omega)) ?_
        replace hF := Option.some.inj hF
        subst hF
        exact ih8 (v1 + (1 : Int32)) σ6 _ _ (by omega) _ _ _ (dx_lk_l hz8) e0 V (lv_sub hl [1, 0] rfl)
  refine lv_bipush (v := 8) hx hb dX0_shelves_0 (by decide) ?_
  refine cl_newr 3 24 S V (by decide) rfl q128 V.1.2.2.1 (by decide) (N' := 8) (by decide) (Nat.le_of_ble_eq_true rfl) (Nat.le_of_ble_eq_true rfl) (Nat.le_of_ble_eq_true rfl) dX0_shelves_2 (fun bb1 ad _ hag ee1 V => ?_)
  have k1 : cl_k (cl_nw σ0 24 8) (cl_n σ0 + 1) = 24 := cl_k_nw
  refine lv_astore_n (lv' := [(0, .ref bb1)]) hx hb dX0_shelves_5 rfl hl (by decide) rfl (fun ls hl => ?_)
  refine lv_iconst (v := 0) hx hb dX0_shelves_6 (by decide) ?_
  refine lv_istore_n (lv' := [(1, .int (0 : Int32)), (0, .ref bb1)]) hx hb dX0_shelves_7 rfl hl (by decide) rfl (fun ls hl => ?_)
  refine W.widen (k := 1 + 1 * (9 - 9)) (n := 8 + 1 * (9 - 9)) (by first | omega | (dsimp only; omega)) (by first | omega | (dsimp only; omega)) ?_
  exact hL8 (cl_n σ0 + 1) 9 (0 : Int32) (cl_nw σ0 24 8) _ _ (by omega) _ _ _ hF ee1 V (lv_sub hl [1, 0] rfl)
theorem cd_X2_init : yX2_init.cls ≠ "java/lang/invoke/MethodHandle" ∧ yX2_init.cls ≠ "java/lang/invoke/VarHandle" ∧ (parseMethodDescriptor yX2_init.desc).map (fun d => d.parameters.length) = some 0 := by decide +kernel
set_option maxHeartbeats 4000000 in
set_option maxRecDepth 100000 in
theorem cm_X2_init (l : Launch) (D : va_G) (dA : Nat → ClassId) (ad0 : Nat → Nat) (A : Nat → Prop) (a0 : Nat) (o0 : Nat)  (σ0 : cl_S) (σ' : cl_S) (e0 : cl_at ad0 σ0 a0 o0) (hF : cl_X2_init o0 σ0 = some σ') : cl_Cv l yX2_init cX2_init 2 ({ frames := 1, cells := 6, slots := 57, locals := 20 }) D dA ad0 A [.ref a0] σ0 σ' := by
  refine cl_in RX2 rfl (by decide) (Nat.le_of_ble_eq_true rfl) ?_
  intro p e s m below meth c ls S hr hlocks hini hv hl
  have hx := S.1
  have hb := S.2.1
  have hown := S.2.2.2.1
  have hts := S.2.2.2.2
  obtain ⟨hN, hK, hP, hD, hA, hZ⟩ := hv
  have V : cl_V D dA (ad0, cl_n σ0) ad0 A s.heap σ0 s s.heap [] := ⟨hN, hK, hP, hD, va_S.rf, hA, hZ, fun _ _ => rfl, Nat.le_refl _⟩
  obtain ⟨ad, V, e0⟩ : ∃ ad, cl_V D dA (ad0, cl_n σ0) ad A s.heap σ0 s s.heap [] ∧ cl_at ad σ0 a0 o0 := ⟨ad0, V, e0⟩
  replace hl : lv_has ls 2 [(0, .ref a0)] := hl
  unfold cl_X2_init at hF
  have hL56 : ∀  (n : Nat) (v1 : Int32) (σ : cl_S) (ad : Nat → Nat) (H : Heap) (locs : List Loc) (ls : Array Slot), dx_lp (fun x => cl_X2_init_L56 o0 x.2 x.1) n (v1, σ) = some σ' → cl_at ad σ a0 o0 → cl_V D dA (ad0, cl_n σ0) ad A s.heap σ s H locs → lv_has ls 2 [(0, .ref a0), (1, .int v1)] → W p l e ({ frames := 1, cells := 6, slots := 57, locals := 20 }) s m ([.ref a0] : List Value).toArray below meth c H locs 6 57 (MQ below (cl_Qv D dA ad0 A σ0 σ') ([.ref a0] : List Value).toArray s 6 57 A) (F0 m 56 ls []) := by
    intro n
    induction n with
    | zero =>
      intro v1 σ ad H locs ls hF e0 V hl
      exact (dx_lp_0 hF).elim
    | succ n ih56 =>
      intro v1 σ ad H locs ls hF e0 V hl
      obtain ⟨y56, hF, hz56⟩ := dx_lp_s hF
      replace hF : cl_X2_init_L56 o0 σ v1 = some y56 := hF
      unfold cl_X2_init_L56 at hF
      refine lv_iload_n hx hb dX2_init_56 rfl (lv_at hl 1 rfl) ?_
      refine lv_bipush (v := 9) hx hb dX2_init_57 (by decide) ?_
      refine lv_icmp_ge (tgt := 75) hx hb dX2_init_59 (by first | decide | (dsimp only [F0]; decide)) (fun hc => ?_) (fun hc => ?_)
      · replace hF := (if_pos hc).symm.trans hF
        replace hF := dx_ex_k hF hz56
        refine W.widen (k := 6) (n := 57) (by first | omega | (dsimp only; omega)) (by first | omega | (dsimp only; omega)) ?_
        replace hF := Option.some.inj hF
        subst hF
        exact cl_rv S V hr hlocks dX2_init_75
      · replace hF := (if_neg hc).symm.trans hF
        refine lv_aload_n hx hb dX2_init_62 rfl (lv_at hl 0 rfl) ?_
        obtain ⟨hg, hF⟩ := dx_gd_some hF
        have k19 := of_decide_eq_true hg
        obtain ⟨hg, hF⟩ := dx_gd_some hF
        refine cl_gr S V e0 k19 rfl (by decide) in_X2 5 (by decide) rfl q167 rfl dX2_init_63 (of_decide_eq_true hg) (fun bb20 ee20 => ?_)
        refine lv_iload_n hx hb dX2_init_66 rfl (lv_at hl 1 rfl) ?_
        refine lv_iconst (v := (-1)) hx hb dX2_init_67 (by decide) ?_
        obtain ⟨hg, hF⟩ := dx_gd_some hF
        have k21 := of_decide_eq_true hg
        obtain ⟨hg, hF⟩ := dx_gd_some hF
        refine cl_st S V ee20 k21 (dx_inb_in hg) dX2_init_68 (fun _ _ V => ?_)
        obtain ⟨σ22, eσ22⟩ : ∃ x, x = (cl_wi σ (cl_r σ o0 5) v1.toNatClampNeg (-1 : Int32)) := ⟨_, rfl⟩
        rw [← eσ22] at V
        replace hF := dx_let_e eσ22 hF
        replace e0 : cl_at ad σ22 a0 o0 := by rw [eσ22]; exact e0
        replace k19 : cl_k σ22 o0 = 2 := by rw [eσ22]; exact k19
        replace k21 : cl_k σ22 (cl_r σ o0 5) = 20 := by rw [eσ22]; exact k21
        refine lv_iinc (v := (v1 + (1 : Int32))) (lv' := [(1, .int (v1 + (1 : Int32))), (0, .ref a0)]) hx hb dX2_init_69 hl (k := 1) rfl rfl (by decide) rfl (fun ls hl => ?_)
        refine lv_goto (tgt := 56) hx hb dX2_init_72 (by first | decide | (dsimp only [F0]; decide)) ?_
        refine W.widen (k := 6) (n := 57) (by first | omega | (dsimp only; omega)) (by first | omega | (dsimp only; omega)) ?_
        replace hF := Option.some.inj hF
        subst hF
        exact ih56 (v1 + (1 : Int32)) σ22 _ _ _ _ (dx_lk_l hz56) e0 V (lv_sub hl [1, 0] rfl)
  refine lv_aload_n hx hb dX2_init_0 rfl (lv_at hl 0 rfl) ?_
  refine W.objInit hx hb hown (hts _ q145) (hts _ q123) (hts _ q124) rfl (by rw [S.2.2.1]; exact hl.1) rfl dX2_init_1 (Nat.le_of_ble_eq_true rfl) (Nat.le_of_ble_eq_true rfl) ?_
  refine lv_aload_n hx hb dX2_init_4 rfl (lv_at hl 0 rfl) ?_
  refine lv_bipush (v := 9) hx hb dX2_init_5 (by decide) ?_
  refine cl_newr 4 25 S V (by decide) rfl q146 V.1.2.2.2.1 (by decide) (N' := 9) (by decide) (Nat.le_of_ble_eq_true rfl) (Nat.le_of_ble_eq_true rfl) (Nat.le_of_ble_eq_true rfl) dX2_init_7 (fun bb1 ad _ hag ee1 V => ?_)
  replace e0 := cl_at.nw 25 9 e0 hag
  have k1 : cl_k (cl_nw σ0 25 9) (cl_n σ0 + 1) = 25 := cl_k_nw
  obtain ⟨hg, hF⟩ := dx_gd_some hF
  have k2 := of_decide_eq_true hg
  refine cl_prF S V e0 k2 rfl (by decide) in_X2 tyX2 tyX2_ok nmX2 4 (by decide) rfl q164 rfl rfl hini rfl ee1 rfl rfl dX2_init_10 (fun _ _ V => ?_)
  refine lv_aload_n hx hb dX2_init_13 rfl (lv_at hl 0 rfl) ?_
  refine lv_bipush (v := 9) hx hb dX2_init_14 (by decide) ?_
  refine cl_newa 0 20 (atype := .int) S V (by decide) (by decide) (by decide) rfl rfl (fun _ _ h => h) q207 rfl (by decide) (N' := 9) (by decide) (Nat.le_of_ble_eq_true rfl) (Nat.le_of_ble_eq_true rfl) (Nat.le_of_ble_eq_true rfl) dX2_init_16 (fun bb3 ad _ hag ee3 V => ?_)
  replace e0 := cl_at.nw 20 9 e0 hag
  have k3 : cl_k (cl_nw (cl_wr (cl_nw σ0 25 9) o0 4 (cl_n σ0 + 1)) 20 9) (cl_n (cl_wr (cl_nw σ0 25 9) o0 4 (cl_n σ0 + 1)) + 1) = 20 := cl_k_nw
  obtain ⟨σ4, eσ4⟩ : ∃ x, x = (cl_nw (cl_wr (cl_nw σ0 25 9) o0 4 (cl_n σ0 + 1)) 20 9) := ⟨_, rfl⟩
  rw [← eσ4] at V
  replace hF := dx_let_e eσ4 hF
  replace e0 : cl_at ad σ4 a0 o0 := by rw [eσ4]; exact e0
  replace ee3 : cl_at ad σ4 bb3 (cl_n (cl_wr (cl_nw σ0 25 9) o0 4 (cl_n σ0 + 1)) + 1) := by rw [eσ4]; exact ee3
  replace k3 : cl_k σ4 (cl_n (cl_wr (cl_nw σ0 25 9) o0 4 (cl_n σ0 + 1)) + 1) = 20 := by rw [eσ4]; exact k3
  obtain ⟨hg, hF⟩ := dx_gd_some hF
  have k5 := of_decide_eq_true hg
  refine cl_prF S V e0 k5 rfl (by decide) in_X2 tyX2 tyX2_ok nmX2 5 (by decide) rfl q167 rfl rfl hini rfl ee3 rfl rfl dX2_init_18 (fun _ _ V => ?_)
  obtain ⟨σ6, eσ6⟩ : ∃ x, x = (cl_wr σ4 o0 5 (cl_n (cl_wr (cl_nw σ0 25 9) o0 4 (cl_n σ0 + 1)) + 1)) := ⟨_, rfl⟩
  rw [← eσ6] at V
  replace hF := dx_let_e eσ6 hF
  replace e0 : cl_at ad σ6 a0 o0 := by rw [eσ6]; exact e0
  replace k3 : cl_k σ6 (cl_n (cl_wr (cl_nw σ0 25 9) o0 4 (cl_n σ0 + 1)) + 1) = 20 := by rw [eσ6]; exact k3
  replace k5 : cl_k σ6 o0 = 2 := by rw [eσ6]; exact k5
  refine lv_aload_n hx hb dX2_init_21 rfl (lv_at hl 0 rfl) ?_
  refine lv_bipush (v := 10) hx hb dX2_init_22 (by decide) ?_
  refine cl_newa 0 20 (atype := .int) S V (by decide) (by decide) (by decide) rfl rfl (fun _ _ h => h) q207 rfl (by decide) (N' := 10) (by decide) (Nat.le_of_ble_eq_true rfl) (Nat.le_of_ble_eq_true rfl) (Nat.le_of_ble_eq_true rfl) dX2_init_24 (fun bb7 ad _ hag ee7 V => ?_)
  replace e0 := cl_at.nw 20 10 e0 hag
  have k7 : cl_k (cl_nw σ6 20 10) (cl_n σ6 + 1) = 20 := cl_k_nw
  obtain ⟨hg, hF⟩ := dx_gd_some hF
  have k8 := of_decide_eq_true hg
  refine cl_prF S V e0 k8 rfl (by decide) in_X2 tyX2 tyX2_ok nmX2 6 (by decide) rfl q170 rfl rfl hini rfl ee7 rfl rfl dX2_init_26 (fun _ _ V => ?_)
  refine lv_aload_n hx hb dX2_init_29 rfl (lv_at hl 0 rfl) ?_
  refine lv_bipush (v := 10) hx hb dX2_init_30 (by decide) ?_
  refine cl_newa 0 20 (atype := .int) S V (by decide) (by decide) (by decide) rfl rfl (fun _ _ h => h) q207 rfl (by decide) (N' := 10) (by decide) (Nat.le_of_ble_eq_true rfl) (Nat.le_of_ble_eq_true rfl) (Nat.le_of_ble_eq_true rfl) dX2_init_32 (fun bb9 ad _ hag ee9 V => ?_)
  replace e0 := cl_at.nw 20 10 e0 hag
  have k9 : cl_k (cl_nw (cl_wr (cl_nw σ6 20 10) o0 6 (cl_n σ6 + 1)) 20 10) (cl_n (cl_wr (cl_nw σ6 20 10) o0 6 (cl_n σ6 + 1)) + 1) = 20 := cl_k_nw
  obtain ⟨σ10, eσ10⟩ : ∃ x, x = (cl_nw (cl_wr (cl_nw σ6 20 10) o0 6 (cl_n σ6 + 1)) 20 10) := ⟨_, rfl⟩
  rw [← eσ10] at V
  replace hF := dx_let_e eσ10 hF
  replace e0 : cl_at ad σ10 a0 o0 := by rw [eσ10]; exact e0
  replace ee9 : cl_at ad σ10 bb9 (cl_n (cl_wr (cl_nw σ6 20 10) o0 6 (cl_n σ6 + 1)) + 1) := by rw [eσ10]; exact ee9
  replace k9 : cl_k σ10 (cl_n (cl_wr (cl_nw σ6 20 10) o0 6 (cl_n σ6 + 1)) + 1) = 20 := by rw [eσ10]; exact k9
  obtain ⟨hg, hF⟩ := dx_gd_some hF
  have k11 := of_decide_eq_true hg
  refine cl_prF S V e0 k11 rfl (by decide) in_X2 tyX2 tyX2_ok nmX2 7 (by decide) rfl q175 rfl rfl hini rfl ee9 rfl rfl dX2_init_34 (fun _ _ V => ?_)
  obtain ⟨σ12, eσ12⟩ : ∃ x, x = (cl_wr σ10 o0 7 (cl_n (cl_wr (cl_nw σ6 20 10) o0 6 (cl_n σ6 + 1)) + 1)) := ⟨_, rfl⟩
  rw [← eσ12] at V
  replace hF := dx_let_e eσ12 hF
  replace e0 : cl_at ad σ12 a0 o0 := by rw [eσ12]; exact e0
  replace k9 : cl_k σ12 (cl_n (cl_wr (cl_nw σ6 20 10) o0 6 (cl_n σ6 + 1)) + 1) = 20 := by rw [eσ12]; exact k9
  replace k11 : cl_k σ12 o0 = 2 := by rw [eσ12]; exact k11
  refine lv_aload_n hx hb dX2_init_37 rfl (lv_at hl 0 rfl) ?_
  refine lv_bipush (v := 10) hx hb dX2_init_38 (by decide) ?_
  refine cl_newa 0 20 (atype := .int) S V (by decide) (by decide) (by decide) rfl rfl (fun _ _ h => h) q207 rfl (by decide) (N' := 10) (by decide) (Nat.le_of_ble_eq_true rfl) (Nat.le_of_ble_eq_true rfl) (Nat.le_of_ble_eq_true rfl) dX2_init_40 (fun bb13 ad _ hag ee13 V => ?_)
  replace e0 := cl_at.nw 20 10 e0 hag
  have k13 : cl_k (cl_nw σ12 20 10) (cl_n σ12 + 1) = 20 := cl_k_nw
  obtain ⟨hg, hF⟩ := dx_gd_some hF
  have k14 := of_decide_eq_true hg
  refine cl_prF S V e0 k14 rfl (by decide) in_X2 tyX2 tyX2_ok nmX2 8 (by decide) rfl q179 rfl rfl hini rfl ee13 rfl rfl dX2_init_42 (fun _ _ V => ?_)
  refine lv_aload_n hx hb dX2_init_45 rfl (lv_at hl 0 rfl) ?_
  refine lv_bipush (v := 9) hx hb dX2_init_46 (by decide) ?_
  refine cl_newr 5 26 S V (by decide) rfl q148 V.1.2.2.2.2.1 (by decide) (N' := 9) (by decide) (Nat.le_of_ble_eq_true rfl) (Nat.le_of_ble_eq_true rfl) (Nat.le_of_ble_eq_true rfl) dX2_init_48 (fun bb15 ad _ hag ee15 V => ?_)
  replace e0 := cl_at.nw 26 9 e0 hag
  have k15 : cl_k (cl_nw (cl_wr (cl_nw σ12 20 10) o0 8 (cl_n σ12 + 1)) 26 9) (cl_n (cl_wr (cl_nw σ12 20 10) o0 8 (cl_n σ12 + 1)) + 1) = 26 := cl_k_nw
  obtain ⟨σ16, eσ16⟩ : ∃ x, x = (cl_nw (cl_wr (cl_nw σ12 20 10) o0 8 (cl_n σ12 + 1)) 26 9) := ⟨_, rfl⟩
  rw [← eσ16] at V
  replace hF := dx_let_e eσ16 hF
  replace e0 : cl_at ad σ16 a0 o0 := by rw [eσ16]; exact e0
  replace ee15 : cl_at ad σ16 bb15 (cl_n (cl_wr (cl_nw σ12 20 10) o0 8 (cl_n σ12 + 1)) + 1) := by rw [eσ16]; exact ee15
  replace k15 : cl_k σ16 (cl_n (cl_wr (cl_nw σ12 20 10) o0 8 (cl_n σ12 + 1)) + 1) = 26 := by rw [eσ16]; exact k15
  obtain ⟨hg, hF⟩ := dx_gd_some hF
  have k17 := of_decide_eq_true hg
  refine cl_prF S V e0 k17 rfl (by decide) in_X2 tyX2 tyX2_ok nmX2 9 (by decide) rfl q184 rfl rfl hini rfl ee15 rfl rfl dX2_init_51 (fun _ _ V => ?_)
  obtain ⟨σ18, eσ18⟩ : ∃ x, x = (cl_wr σ16 o0 9 (cl_n (cl_wr (cl_nw σ12 20 10) o0 8 (cl_n σ12 + 1)) + 1)) := ⟨_, rfl⟩
  rw [← eσ18] at V
  replace hF := dx_let_e eσ18 hF
  replace e0 : cl_at ad σ18 a0 o0 := by rw [eσ18]; exact e0
  replace k15 : cl_k σ18 (cl_n (cl_wr (cl_nw σ12 20 10) o0 8 (cl_n σ12 + 1)) + 1) = 26 := by rw [eσ18]; exact k15
  replace k17 : cl_k σ18 o0 = 2 := by rw [eσ18]; exact k17
  refine lv_iconst (v := 0) hx hb dX2_init_54 (by decide) ?_
  refine lv_istore_n (lv' := [(1, .int (0 : Int32)), (0, .ref a0)]) hx hb dX2_init_55 rfl hl (by decide) rfl (fun ls hl => ?_)
  refine W.widen (k := 6) (n := 57) (by first | omega | (dsimp only; omega)) (by first | omega | (dsimp only; omega)) ?_
  exact hL56  dx_fu (0 : Int32) σ18 _ _ _ _ hF e0 V (lv_sub hl [1, 0] rfl)
theorem cd_X3_init : yX3_init.cls ≠ "java/lang/invoke/MethodHandle" ∧ yX3_init.cls ≠ "java/lang/invoke/VarHandle" ∧ (parseMethodDescriptor yX3_init.desc).map (fun d => d.parameters.length) = some 0 := by decide +kernel
set_option maxHeartbeats 4000000 in
set_option maxRecDepth 100000 in
theorem cm_X3_init (l : Launch) (D : va_G) (dA : Nat → ClassId) (ad0 : Nat → Nat) (A : Nat → Prop) (a0 : Nat) (o0 : Nat)  (σ0 : cl_S) (σ' : cl_S) (e0 : cl_at ad0 σ0 a0 o0) (hF : cl_X3_init o0 σ0 = some σ') : cl_Cv l yX3_init cX3_init 1 ({ frames := 1, cells := 1, slots := 9, locals := 20 }) D dA ad0 A [.ref a0] σ0 σ' := by
  refine cl_in RX3 rfl (by decide) (Nat.le_of_ble_eq_true rfl) ?_
  intro p e s m below meth c ls S hr hlocks hini hv hl
  have hx := S.1
  have hb := S.2.1
  have hown := S.2.2.2.1
  have hts := S.2.2.2.2
  obtain ⟨hN, hK, hP, hD, hA, hZ⟩ := hv
  have V : cl_V D dA (ad0, cl_n σ0) ad0 A s.heap σ0 s s.heap [] := ⟨hN, hK, hP, hD, va_S.rf, hA, hZ, fun _ _ => rfl, Nat.le_refl _⟩
  obtain ⟨ad, V, e0⟩ : ∃ ad, cl_V D dA (ad0, cl_n σ0) ad A s.heap σ0 s s.heap [] ∧ cl_at ad σ0 a0 o0 := ⟨ad0, V, e0⟩
  replace hl : lv_has ls 1 [(0, .ref a0)] := hl
  unfold cl_X3_init at hF
  refine lv_aload_n hx hb dX3_init_0 rfl (lv_at hl 0 rfl) ?_
  refine W.objInit hx hb hown (hts _ q213) (hts _ q123) (hts _ q124) rfl (by rw [S.2.2.1]; exact hl.1) rfl dX3_init_1 (Nat.le_of_ble_eq_true rfl) (Nat.le_of_ble_eq_true rfl) ?_
  refine lv_aload_n hx hb dX3_init_4 rfl (lv_at hl 0 rfl) ?_
  refine lv_bipush (v := 9) hx hb dX3_init_5 (by decide) ?_
  refine cl_newa 0 20 (atype := .int) S V (by decide) (by decide) (by decide) rfl rfl (fun _ _ h => h) q207 rfl (by decide) (N' := 9) (by decide) (Nat.le_of_ble_eq_true rfl) (Nat.le_of_ble_eq_true rfl) (Nat.le_of_ble_eq_true rfl) dX3_init_7 (fun bb1 ad _ hag ee1 V => ?_)
  replace e0 := cl_at.nw 20 9 e0 hag
  have k1 : cl_k (cl_nw σ0 20 9) (cl_n σ0 + 1) = 20 := cl_k_nw
  obtain ⟨hg, hF⟩ := dx_gd_some hF
  have k2 := of_decide_eq_true hg
  refine cl_prF S V e0 k2 rfl (by decide) in_X3 tyX3 tyX3_ok nmX3 0 (by decide) rfl q214 rfl rfl hini rfl ee1 rfl rfl dX3_init_9 (fun _ _ V => ?_)
  refine W.widen (k := 1) (n := 9) (by first | omega | (dsimp only; omega)) (by first | omega | (dsimp only; omega)) ?_
  replace hF := Option.some.inj hF
  subst hF
  exact cl_rv S V hr hlocks dX3_init_12
theorem cd_X4_init : yX4_init.cls ≠ "java/lang/invoke/MethodHandle" ∧ yX4_init.cls ≠ "java/lang/invoke/VarHandle" ∧ (parseMethodDescriptor yX4_init.desc).map (fun d => d.parameters.length) = some 0 := by decide +kernel
set_option maxHeartbeats 4000000 in
set_option maxRecDepth 100000 in
theorem cm_X4_init (l : Launch) (D : va_G) (dA : Nat → ClassId) (ad0 : Nat → Nat) (A : Nat → Prop) (a0 : Nat) (o0 : Nat)  (σ0 : cl_S) (σ' : cl_S) (e0 : cl_at ad0 σ0 a0 o0) (hF : cl_X4_init o0 σ0 = some σ') : cl_Cv l yX4_init cX4_init 1 ({ frames := 1, cells := 6, slots := 1408, locals := 20 }) D dA ad0 A [.ref a0] σ0 σ' := by
  refine cl_in RX4 rfl (by decide) (Nat.le_of_ble_eq_true rfl) ?_
  intro p e s m below meth c ls S hr hlocks hini hv hl
  have hx := S.1
  have hb := S.2.1
  have hown := S.2.2.2.1
  have hts := S.2.2.2.2
  obtain ⟨hN, hK, hP, hD, hA, hZ⟩ := hv
  have V : cl_V D dA (ad0, cl_n σ0) ad0 A s.heap σ0 s s.heap [] := ⟨hN, hK, hP, hD, va_S.rf, hA, hZ, fun _ _ => rfl, Nat.le_refl _⟩
  obtain ⟨ad, V, e0⟩ : ∃ ad, cl_V D dA (ad0, cl_n σ0) ad A s.heap σ0 s s.heap [] ∧ cl_at ad σ0 a0 o0 := ⟨ad0, V, e0⟩
  replace hl : lv_has ls 1 [(0, .ref a0)] := hl
  unfold cl_X4_init at hF
  refine lv_aload_n hx hb dX4_init_0 rfl (lv_at hl 0 rfl) ?_
  refine W.objInit hx hb hown (hts _ q224) (hts _ q123) (hts _ q124) rfl (by rw [S.2.2.1]; exact hl.1) rfl dX4_init_1 (Nat.le_of_ble_eq_true rfl) (Nat.le_of_ble_eq_true rfl) ?_
  refine lv_aload_n hx hb dX4_init_4 rfl (lv_at hl 0 rfl) ?_
  refine lv_sipush (v := 280) hx hb dX4_init_5 (by decide) ?_
  refine cl_newa 0 20 (atype := .int) S V (by decide) (by decide) (by decide) rfl rfl (fun _ _ h => h) q207 rfl (by decide) (N' := 280) (by decide) (Nat.le_of_ble_eq_true rfl) (Nat.le_of_ble_eq_true rfl) (Nat.le_of_ble_eq_true rfl) dX4_init_8 (fun bb1 ad _ hag ee1 V => ?_)
  replace e0 := cl_at.nw 20 280 e0 hag
  have k1 : cl_k (cl_nw σ0 20 280) (cl_n σ0 + 1) = 20 := cl_k_nw
  obtain ⟨hg, hF⟩ := dx_gd_some hF
  have k2 := of_decide_eq_true hg
  refine cl_prF S V e0 k2 rfl (by decide) in_X4 tyX4 tyX4_ok nmX4 0 (by decide) rfl q225 rfl rfl hini rfl ee1 rfl rfl dX4_init_10 (fun _ _ V => ?_)
  refine lv_aload_n hx hb dX4_init_13 rfl (lv_at hl 0 rfl) ?_
  refine lv_sipush (v := 280) hx hb dX4_init_14 (by decide) ?_
  refine cl_newa 0 20 (atype := .int) S V (by decide) (by decide) (by decide) rfl rfl (fun _ _ h => h) q207 rfl (by decide) (N' := 280) (by decide) (Nat.le_of_ble_eq_true rfl) (Nat.le_of_ble_eq_true rfl) (Nat.le_of_ble_eq_true rfl) dX4_init_17 (fun bb3 ad _ hag ee3 V => ?_)
  replace e0 := cl_at.nw 20 280 e0 hag
  have k3 : cl_k (cl_nw (cl_wr (cl_nw σ0 20 280) o0 0 (cl_n σ0 + 1)) 20 280) (cl_n (cl_wr (cl_nw σ0 20 280) o0 0 (cl_n σ0 + 1)) + 1) = 20 := cl_k_nw
  obtain ⟨σ4, eσ4⟩ : ∃ x, x = (cl_nw (cl_wr (cl_nw σ0 20 280) o0 0 (cl_n σ0 + 1)) 20 280) := ⟨_, rfl⟩
  rw [← eσ4] at V
  replace hF := dx_let_e eσ4 hF
  replace e0 : cl_at ad σ4 a0 o0 := by rw [eσ4]; exact e0
  replace ee3 : cl_at ad σ4 bb3 (cl_n (cl_wr (cl_nw σ0 20 280) o0 0 (cl_n σ0 + 1)) + 1) := by rw [eσ4]; exact ee3
  replace k3 : cl_k σ4 (cl_n (cl_wr (cl_nw σ0 20 280) o0 0 (cl_n σ0 + 1)) + 1) = 20 := by rw [eσ4]; exact k3
  obtain ⟨hg, hF⟩ := dx_gd_some hF
  have k5 := of_decide_eq_true hg
  refine cl_prF S V e0 k5 rfl (by decide) in_X4 tyX4 tyX4_ok nmX4 1 (by decide) rfl q226 rfl rfl hini rfl ee3 rfl rfl dX4_init_19 (fun _ _ V => ?_)
  obtain ⟨σ6, eσ6⟩ : ∃ x, x = (cl_wr σ4 o0 1 (cl_n (cl_wr (cl_nw σ0 20 280) o0 0 (cl_n σ0 + 1)) + 1)) := ⟨_, rfl⟩
  rw [← eσ6] at V
  replace hF := dx_let_e eσ6 hF
  replace e0 : cl_at ad σ6 a0 o0 := by rw [eσ6]; exact e0
  replace k3 : cl_k σ6 (cl_n (cl_wr (cl_nw σ0 20 280) o0 0 (cl_n σ0 + 1)) + 1) = 20 := by rw [eσ6]; exact k3
  replace k5 : cl_k σ6 o0 = 4 := by rw [eσ6]; exact k5
  refine lv_aload_n hx hb dX4_init_22 rfl (lv_at hl 0 rfl) ?_
  refine lv_sipush (v := 280) hx hb dX4_init_23 (by decide) ?_
  refine cl_newa 0 20 (atype := .int) S V (by decide) (by decide) (by decide) rfl rfl (fun _ _ h => h) q207 rfl (by decide) (N' := 280) (by decide) (Nat.le_of_ble_eq_true rfl) (Nat.le_of_ble_eq_true rfl) (Nat.le_of_ble_eq_true rfl) dX4_init_26 (fun bb7 ad _ hag ee7 V => ?_)
  replace e0 := cl_at.nw 20 280 e0 hag
  have k7 : cl_k (cl_nw σ6 20 280) (cl_n σ6 + 1) = 20 := cl_k_nw
  obtain ⟨hg, hF⟩ := dx_gd_some hF
  have k8 := of_decide_eq_true hg
  refine cl_prF S V e0 k8 rfl (by decide) in_X4 tyX4 tyX4_ok nmX4 2 (by decide) rfl q227 rfl rfl hini rfl ee7 rfl rfl dX4_init_28 (fun _ _ V => ?_)
  refine lv_aload_n hx hb dX4_init_31 rfl (lv_at hl 0 rfl) ?_
  refine lv_sipush (v := 280) hx hb dX4_init_32 (by decide) ?_
  refine cl_newa 0 20 (atype := .int) S V (by decide) (by decide) (by decide) rfl rfl (fun _ _ h => h) q207 rfl (by decide) (N' := 280) (by decide) (Nat.le_of_ble_eq_true rfl) (Nat.le_of_ble_eq_true rfl) (Nat.le_of_ble_eq_true rfl) dX4_init_35 (fun bb9 ad _ hag ee9 V => ?_)
  replace e0 := cl_at.nw 20 280 e0 hag
  have k9 : cl_k (cl_nw (cl_wr (cl_nw σ6 20 280) o0 2 (cl_n σ6 + 1)) 20 280) (cl_n (cl_wr (cl_nw σ6 20 280) o0 2 (cl_n σ6 + 1)) + 1) = 20 := cl_k_nw
  obtain ⟨σ10, eσ10⟩ : ∃ x, x = (cl_nw (cl_wr (cl_nw σ6 20 280) o0 2 (cl_n σ6 + 1)) 20 280) := ⟨_, rfl⟩
  rw [← eσ10] at V
  replace hF := dx_let_e eσ10 hF
  replace e0 : cl_at ad σ10 a0 o0 := by rw [eσ10]; exact e0
  replace ee9 : cl_at ad σ10 bb9 (cl_n (cl_wr (cl_nw σ6 20 280) o0 2 (cl_n σ6 + 1)) + 1) := by rw [eσ10]; exact ee9
  replace k9 : cl_k σ10 (cl_n (cl_wr (cl_nw σ6 20 280) o0 2 (cl_n σ6 + 1)) + 1) = 20 := by rw [eσ10]; exact k9
  obtain ⟨hg, hF⟩ := dx_gd_some hF
  have k11 := of_decide_eq_true hg
  refine cl_prF S V e0 k11 rfl (by decide) in_X4 tyX4 tyX4_ok nmX4 3 (by decide) rfl q228 rfl rfl hini rfl ee9 rfl rfl dX4_init_37 (fun _ _ V => ?_)
  obtain ⟨σ12, eσ12⟩ : ∃ x, x = (cl_wr σ10 o0 3 (cl_n (cl_wr (cl_nw σ6 20 280) o0 2 (cl_n σ6 + 1)) + 1)) := ⟨_, rfl⟩
  rw [← eσ12] at V
  replace hF := dx_let_e eσ12 hF
  replace e0 : cl_at ad σ12 a0 o0 := by rw [eσ12]; exact e0
  replace k9 : cl_k σ12 (cl_n (cl_wr (cl_nw σ6 20 280) o0 2 (cl_n σ6 + 1)) + 1) = 20 := by rw [eσ12]; exact k9
  replace k11 : cl_k σ12 o0 = 4 := by rw [eσ12]; exact k11
  refine lv_aload_n hx hb dX4_init_40 rfl (lv_at hl 0 rfl) ?_
  refine lv_bipush (v := 9) hx hb dX4_init_41 (by decide) ?_
  refine cl_newa 0 20 (atype := .int) S V (by decide) (by decide) (by decide) rfl rfl (fun _ _ h => h) q207 rfl (by decide) (N' := 9) (by decide) (Nat.le_of_ble_eq_true rfl) (Nat.le_of_ble_eq_true rfl) (Nat.le_of_ble_eq_true rfl) dX4_init_43 (fun bb13 ad _ hag ee13 V => ?_)
  replace e0 := cl_at.nw 20 9 e0 hag
  have k13 : cl_k (cl_nw σ12 20 9) (cl_n σ12 + 1) = 20 := cl_k_nw
  obtain ⟨hg, hF⟩ := dx_gd_some hF
  have k14 := of_decide_eq_true hg
  refine cl_prF S V e0 k14 rfl (by decide) in_X4 tyX4 tyX4_ok nmX4 4 (by decide) rfl q229 rfl rfl hini rfl ee13 rfl rfl dX4_init_45 (fun _ _ V => ?_)
  refine lv_aload_n hx hb dX4_init_48 rfl (lv_at hl 0 rfl) ?_
  refine lv_sipush (v := 279) hx hb dX4_init_49 (by decide) ?_
  refine cl_newa 0 20 (atype := .int) S V (by decide) (by decide) (by decide) rfl rfl (fun _ _ h => h) q207 rfl (by decide) (N' := 279) (by decide) (Nat.le_of_ble_eq_true rfl) (Nat.le_of_ble_eq_true rfl) (Nat.le_of_ble_eq_true rfl) dX4_init_52 (fun bb15 ad _ hag ee15 V => ?_)
  replace e0 := cl_at.nw 20 279 e0 hag
  have k15 : cl_k (cl_nw (cl_wr (cl_nw σ12 20 9) o0 4 (cl_n σ12 + 1)) 20 279) (cl_n (cl_wr (cl_nw σ12 20 9) o0 4 (cl_n σ12 + 1)) + 1) = 20 := cl_k_nw
  obtain ⟨σ16, eσ16⟩ : ∃ x, x = (cl_nw (cl_wr (cl_nw σ12 20 9) o0 4 (cl_n σ12 + 1)) 20 279) := ⟨_, rfl⟩
  rw [← eσ16] at V
  replace hF := dx_let_e eσ16 hF
  replace e0 : cl_at ad σ16 a0 o0 := by rw [eσ16]; exact e0
  replace ee15 : cl_at ad σ16 bb15 (cl_n (cl_wr (cl_nw σ12 20 9) o0 4 (cl_n σ12 + 1)) + 1) := by rw [eσ16]; exact ee15
  replace k15 : cl_k σ16 (cl_n (cl_wr (cl_nw σ12 20 9) o0 4 (cl_n σ12 + 1)) + 1) = 20 := by rw [eσ16]; exact k15
  obtain ⟨hg, hF⟩ := dx_gd_some hF
  have k17 := of_decide_eq_true hg
  refine cl_prF S V e0 k17 rfl (by decide) in_X4 tyX4 tyX4_ok nmX4 6 (by decide) rfl q231 rfl rfl hini rfl ee15 rfl rfl dX4_init_54 (fun _ _ V => ?_)
  obtain ⟨σ18, eσ18⟩ : ∃ x, x = (cl_wr σ16 o0 6 (cl_n (cl_wr (cl_nw σ12 20 9) o0 4 (cl_n σ12 + 1)) + 1)) := ⟨_, rfl⟩
  rw [← eσ18] at V
  replace hF := dx_let_e eσ18 hF
  replace e0 : cl_at ad σ18 a0 o0 := by rw [eσ18]; exact e0
  replace k15 : cl_k σ18 (cl_n (cl_wr (cl_nw σ12 20 9) o0 4 (cl_n σ12 + 1)) + 1) = 20 := by rw [eσ18]; exact k15
  replace k17 : cl_k σ18 o0 = 4 := by rw [eσ18]; exact k17
  refine W.widen (k := 6) (n := 1408) (by first | omega | (dsimp only; omega)) (by first | omega | (dsimp only; omega)) ?_
  replace hF := Option.some.inj hF
  subst hF
  exact cl_rv S V hr hlocks dX4_init_57
theorem cd_X5_init : yX5_init.cls ≠ "java/lang/invoke/MethodHandle" ∧ yX5_init.cls ≠ "java/lang/invoke/VarHandle" ∧ (parseMethodDescriptor yX5_init.desc).map (fun d => d.parameters.length) = some 0 := by decide +kernel
set_option maxHeartbeats 4000000 in
set_option maxRecDepth 100000 in
theorem cm_X5_init (l : Launch) (D : va_G) (dA : Nat → ClassId) (ad0 : Nat → Nat) (A : Nat → Prop) (a0 : Nat) (o0 : Nat)  (σ0 : cl_S) (σ' : cl_S) (e0 : cl_at ad0 σ0 a0 o0) (hF : cl_X5_init o0 σ0 = some σ') : cl_Cv l yX5_init cX5_init 1 ({ frames := 1, cells := 1, slots := 16, locals := 20 }) D dA ad0 A [.ref a0] σ0 σ' := by
  refine cl_in RX5 rfl (by decide) (Nat.le_of_ble_eq_true rfl) ?_
  intro p e s m below meth c ls S hr hlocks hini hv hl
  have hx := S.1
  have hb := S.2.1
  have hown := S.2.2.2.1
  have hts := S.2.2.2.2
  obtain ⟨hN, hK, hP, hD, hA, hZ⟩ := hv
  have V : cl_V D dA (ad0, cl_n σ0) ad0 A s.heap σ0 s s.heap [] := ⟨hN, hK, hP, hD, va_S.rf, hA, hZ, fun _ _ => rfl, Nat.le_refl _⟩
  obtain ⟨ad, V, e0⟩ : ∃ ad, cl_V D dA (ad0, cl_n σ0) ad A s.heap σ0 s s.heap [] ∧ cl_at ad σ0 a0 o0 := ⟨ad0, V, e0⟩
  replace hl : lv_has ls 1 [(0, .ref a0)] := hl
  unfold cl_X5_init at hF
  refine lv_aload_n hx hb dX5_init_0 rfl (lv_at hl 0 rfl) ?_
  refine W.objInit hx hb hown (hts _ q258) (hts _ q123) (hts _ q124) rfl (by rw [S.2.2.1]; exact hl.1) rfl dX5_init_1 (Nat.le_of_ble_eq_true rfl) (Nat.le_of_ble_eq_true rfl) ?_
  refine lv_aload_n hx hb dX5_init_4 rfl (lv_at hl 0 rfl) ?_
  refine lv_bipush (v := 16) hx hb dX5_init_5 (by decide) ?_
  refine cl_newa 0 20 (atype := .int) S V (by decide) (by decide) (by decide) rfl rfl (fun _ _ h => h) q207 rfl (by decide) (N' := 16) (by decide) (Nat.le_of_ble_eq_true rfl) (Nat.le_of_ble_eq_true rfl) (Nat.le_of_ble_eq_true rfl) dX5_init_7 (fun bb1 ad _ hag ee1 V => ?_)
  replace e0 := cl_at.nw 20 16 e0 hag
  have k1 : cl_k (cl_nw σ0 20 16) (cl_n σ0 + 1) = 20 := cl_k_nw
  obtain ⟨hg, hF⟩ := dx_gd_some hF
  have k2 := of_decide_eq_true hg
  refine cl_prF S V e0 k2 rfl (by decide) in_X5 tyX5 tyX5_ok nmX5 0 (by decide) rfl q259 rfl rfl hini rfl ee1 rfl rfl dX5_init_9 (fun _ _ V => ?_)
  refine W.widen (k := 1) (n := 16) (by first | omega | (dsimp only; omega)) (by first | omega | (dsimp only; omega)) ?_
  replace hF := Option.some.inj hF
  subst hF
  exact cl_rv S V hr hlocks dX5_init_12
theorem cd_X0_init : yX0_init.cls ≠ "java/lang/invoke/MethodHandle" ∧ yX0_init.cls ≠ "java/lang/invoke/VarHandle" ∧ (parseMethodDescriptor yX0_init.desc).map (fun d => d.parameters.length) = some 0 := by decide +kernel
set_option maxHeartbeats 4000000 in
set_option maxRecDepth 100000 in
theorem cm_X0_init (l : Launch) (D : va_G) (dA : Nat → ClassId) (ad0 : Nat → Nat) (A : Nat → Prop) (a0 : Nat) (o0 : Nat)  (σ0 : cl_S) (σ' : cl_S) (e0 : cl_at ad0 σ0 a0 o0) (hF : cl_X0_init o0 σ0 = some σ') : cl_Cv l yX0_init cX0_init 1 ({ frames := 3, cells := 38, slots := 1743, locals := 61 }) D dA ad0 A [.ref a0] σ0 σ' := by
  refine cl_in RX0 rfl (by decide) (Nat.le_of_ble_eq_true rfl) ?_
  intro p e s m below meth c ls S hr hlocks hini hv hl
  have hx := S.1
  have hb := S.2.1
  have hown := S.2.2.2.1
  have hts := S.2.2.2.2
  obtain ⟨hN, hK, hP, hD, hA, hZ⟩ := hv
  have V : cl_V D dA (ad0, cl_n σ0) ad0 A s.heap σ0 s s.heap [] := ⟨hN, hK, hP, hD, va_S.rf, hA, hZ, fun _ _ => rfl, Nat.le_refl _⟩
  obtain ⟨ad, V, e0⟩ : ∃ ad, cl_V D dA (ad0, cl_n σ0) ad A s.heap σ0 s s.heap [] ∧ cl_at ad σ0 a0 o0 := ⟨ad0, V, e0⟩
  replace hl : lv_has ls 1 [(0, .ref a0)] := hl
  unfold cl_X0_init at hF
  refine lv_aload_n hx hb dX0_init_0 rfl (lv_at hl 0 rfl) ?_
  refine W.objInit hx hb hown (hts _ q122) (hts _ q123) (hts _ q124) rfl (by rw [S.2.2.1]; exact hl.1) rfl dX0_init_1 (Nat.le_of_ble_eq_true rfl) (Nat.le_of_ble_eq_true rfl) ?_
  refine lv_aload_n hx hb dX0_init_4 rfl (lv_at hl 0 rfl) ?_
  obtain ⟨r1, σ1, h1c, hF⟩ := dx_b2_some hF
  obtain ⟨hg, hF⟩ := dx_gd_some hF
  refine cl_cr (va_runS (As := []) S (cm_X0_shelves l D dA _ A    σ0 _ _  h1c) (va_cwS 0 hts (lw_S q125 q126 q77 q127) rfl rfl rfl cd_X0_shelves ⟨Nat.le_of_ble_eq_true rfl, Nat.le_of_ble_eq_true rfl⟩) (cl_preS V []) rfl rfl hl.1 rfl (lv_room (Nat.le_of_ble_eq_true rfl)) dX0_init_5 ⟨Nat.le_of_ble_eq_true rfl, Nat.le_of_ble_eq_true rfl⟩) V (of_decide_eq_true hg) (fun bb1 ad _ _ hag hle ee1 V => ?_)
  replace e0 := e0.mv hag hle
  obtain ⟨hg, hF⟩ := dx_gd_some hF
  have k2 := of_decide_eq_true hg
  refine cl_prF S V e0 k2 rfl (by decide) in_X0 tyX0 tyX0_ok nmX0 0 (by decide) rfl q268 rfl rfl hini rfl ee1 rfl rfl dX0_init_8 (fun _ _ V => ?_)
  refine lv_aload_n hx hb dX0_init_11 rfl (lv_at hl 0 rfl) ?_
  refine lv_sipush (v := 130) hx hb dX0_init_12 (by decide) ?_
  refine cl_newa 1 21 (atype := .byte) S V (by decide) (by decide) (by decide) rfl rfl (fun _ _ h => h) q206 rfl (by decide) (N' := 130) (by decide) (Nat.le_of_ble_eq_true rfl) (Nat.le_of_ble_eq_true rfl) (Nat.le_of_ble_eq_true rfl) dX0_init_15 (fun bb3 ad _ hag ee3 V => ?_)
  replace e0 := cl_at.nw 21 130 e0 hag
  have k3 : cl_k (cl_nw (cl_wr σ1 o0 0 r1) 21 130) (cl_n (cl_wr σ1 o0 0 r1) + 1) = 21 := cl_k_nw
  obtain ⟨hg, hF⟩ := dx_gd_some hF
  have k4 := of_decide_eq_true hg
  refine cl_prF S V e0 k4 rfl (by decide) in_X0 tyX0 tyX0_ok nmX0 1 (by decide) rfl q269 rfl rfl hini rfl ee3 rfl rfl dX0_init_17 (fun _ _ V => ?_)
  obtain ⟨σ5, eσ5⟩ : ∃ x, x = (cl_wr (cl_nw (cl_wr σ1 o0 0 r1) 21 130) o0 1 (cl_n (cl_wr σ1 o0 0 r1) + 1)) := ⟨_, rfl⟩
  rw [← eσ5] at V
  replace hF := dx_let_e eσ5 hF
  replace e0 : cl_at ad σ5 a0 o0 := by rw [eσ5]; exact e0
  replace k3 : cl_k σ5 (cl_n (cl_wr σ1 o0 0 r1) + 1) = 21 := by rw [eσ5]; exact k3
  replace k4 : cl_k σ5 o0 = 0 := by rw [eσ5]; exact k4
  refine lv_aload_n hx hb dX0_init_20 rfl (lv_at hl 0 rfl) ?_
  refine cl_new S V rfl (by decide) in_X2 tyX2 tyX2_ok cl_dfX2 q140 q141 q79 (Nat.le_of_ble_eq_true rfl) (Nat.le_of_ble_eq_true rfl) dX0_init_21 (fun bb6 ad _ hag ee6 V => ?_)
  replace e0 := cl_at.nw 2 0 e0 hag
  have k6 : cl_k (cl_nw σ5 2 0) (cl_n σ5 + 1) = 2 := cl_k_nw
  refine lv_dup hx hb dX0_init_24 rfl ?_
  obtain ⟨σ7, h7c, hF⟩ := dx_b1_some hF
  refine cl_cv (va_runI (As := []) S (cm_X2_init l D dA _ A bb6 (cl_n σ5 + 1)  (cl_nw σ5 2 0) _ ee6 h7c) (cwI 0 hts (lw_meth q144) rfl rfl rfl (hts _ q79) (hts _ q142) (hts _ q143) rfl cd_X2_init ⟨Nat.le_of_ble_eq_true rfl, Nat.le_of_ble_eq_true rfl⟩) (cl_preS V [.ref bb6]) rfl rfl hl.1 rfl (lv_room (Nat.le_of_ble_eq_true rfl)) dX0_init_25 ⟨Nat.le_of_ble_eq_true rfl, Nat.le_of_ble_eq_true rfl⟩) V (fun ad _ _ hag hle V => ?_)
  replace e0 := e0.mv hag hle
  replace ee6 := ee6.mv hag hle
  obtain ⟨hg, hF⟩ := dx_gd_some hF
  have k8 := of_decide_eq_true hg
  refine cl_prF S V e0 k8 rfl (by decide) in_X0 tyX0 tyX0_ok nmX0 4 (by decide) rfl q272 rfl rfl hini rfl ee6 rfl rfl dX0_init_28 (fun _ _ V => ?_)
  refine lv_aload_n hx hb dX0_init_31 rfl (lv_at hl 0 rfl) ?_
  refine cl_new S V rfl (by decide) in_X2 tyX2 tyX2_ok cl_dfX2 q140 q141 q79 (Nat.le_of_ble_eq_true rfl) (Nat.le_of_ble_eq_true rfl) dX0_init_32 (fun bb9 ad _ hag ee9 V => ?_)
  replace e0 := cl_at.nw 2 0 e0 hag
  have k9 : cl_k (cl_nw (cl_wr σ7 o0 4 (cl_n σ5 + 1)) 2 0) (cl_n (cl_wr σ7 o0 4 (cl_n σ5 + 1)) + 1) = 2 := cl_k_nw
  refine lv_dup hx hb dX0_init_35 rfl ?_
  obtain ⟨σ10, h10c, hF⟩ := dx_b1_some hF
  refine cl_cv (va_runI (As := []) S (cm_X2_init l D dA _ A bb9 (cl_n (cl_wr σ7 o0 4 (cl_n σ5 + 1)) + 1)  (cl_nw (cl_wr σ7 o0 4 (cl_n σ5 + 1)) 2 0) _ ee9 h10c) (cwI 0 hts (lw_meth q144) rfl rfl rfl (hts _ q79) (hts _ q142) (hts _ q143) rfl cd_X2_init ⟨Nat.le_of_ble_eq_true rfl, Nat.le_of_ble_eq_true rfl⟩) (cl_preS V [.ref bb9]) rfl rfl hl.1 rfl (lv_room (Nat.le_of_ble_eq_true rfl)) dX0_init_36 ⟨Nat.le_of_ble_eq_true rfl, Nat.le_of_ble_eq_true rfl⟩) V (fun ad _ _ hag hle V => ?_)
  replace e0 := e0.mv hag hle
  replace ee9 := ee9.mv hag hle
  obtain ⟨hg, hF⟩ := dx_gd_some hF
  have k11 := of_decide_eq_true hg
  refine cl_prF S V e0 k11 rfl (by decide) in_X0 tyX0 tyX0_ok nmX0 5 (by decide) rfl q273 rfl rfl hini rfl ee9 rfl rfl dX0_init_39 (fun _ _ V => ?_)
  obtain ⟨σ12, eσ12⟩ : ∃ x, x = (cl_wr σ10 o0 5 (cl_n (cl_wr σ7 o0 4 (cl_n σ5 + 1)) + 1)) := ⟨_, rfl⟩
  rw [← eσ12] at V
  replace hF := dx_let_e eσ12 hF
  replace e0 : cl_at ad σ12 a0 o0 := by rw [eσ12]; exact e0
  replace k11 : cl_k σ12 o0 = 0 := by rw [eσ12]; exact k11
  refine lv_aload_n hx hb dX0_init_42 rfl (lv_at hl 0 rfl) ?_
  refine cl_new S V rfl (by decide) in_X3 tyX3 tyX3_ok cl_dfX3 q208 q209 q80 (Nat.le_of_ble_eq_true rfl) (Nat.le_of_ble_eq_true rfl) dX0_init_43 (fun bb13 ad _ hag ee13 V => ?_)
  replace e0 := cl_at.nw 3 0 e0 hag
  have k13 : cl_k (cl_nw σ12 3 0) (cl_n σ12 + 1) = 3 := cl_k_nw
  refine lv_dup hx hb dX0_init_46 rfl ?_
  obtain ⟨σ14, h14c, hF⟩ := dx_b1_some hF
  refine cl_cv (va_runIN (As := []) S (cm_X3_init l D dA _ A bb13 (cl_n σ12 + 1)  (cl_nw σ12 3 0) _ ee13 h14c) ⟨va_cnB 0 hts (lw_meth q212) rfl rfl rfl (V.1.1 _ cn_q210) (hts _ q80) cd_X3_init ⟨Nat.le_of_ble_eq_true rfl, Nat.le_of_ble_eq_true rfl⟩, rfl, hts _ q211⟩ (cl_preS V [.ref bb13]) rfl rfl hl.1 rfl (lv_room (Nat.le_of_ble_eq_true rfl)) dX0_init_47 ⟨Nat.le_of_ble_eq_true rfl, Nat.le_of_ble_eq_true rfl⟩) V (fun ad _ _ hag hle V => ?_)
  replace e0 := e0.mv hag hle
  replace ee13 := ee13.mv hag hle
  obtain ⟨hg, hF⟩ := dx_gd_some hF
  have k15 := of_decide_eq_true hg
  refine cl_prF S V e0 k15 rfl (by decide) in_X0 tyX0 tyX0_ok nmX0 6 (by decide) rfl q274 rfl rfl hini rfl ee13 rfl rfl dX0_init_50 (fun _ _ V => ?_)
  refine lv_aload_n hx hb dX0_init_53 rfl (lv_at hl 0 rfl) ?_
  refine cl_new S V rfl (by decide) in_X4 tyX4 tyX4_ok cl_dfX4 q219 q220 q81 (Nat.le_of_ble_eq_true rfl) (Nat.le_of_ble_eq_true rfl) dX0_init_54 (fun bb16 ad _ hag ee16 V => ?_)
  replace e0 := cl_at.nw 4 0 e0 hag
  have k16 : cl_k (cl_nw (cl_wr σ14 o0 6 (cl_n σ12 + 1)) 4 0) (cl_n (cl_wr σ14 o0 6 (cl_n σ12 + 1)) + 1) = 4 := cl_k_nw
  refine lv_dup hx hb dX0_init_57 rfl ?_
  obtain ⟨σ17, h17c, hF⟩ := dx_b1_some hF
  refine cl_cv (va_runIN (As := []) S (cm_X4_init l D dA _ A bb16 (cl_n (cl_wr σ14 o0 6 (cl_n σ12 + 1)) + 1)  (cl_nw (cl_wr σ14 o0 6 (cl_n σ12 + 1)) 4 0) _ ee16 h17c) ⟨va_cnB 0 hts (lw_meth q223) rfl rfl rfl (V.1.1 _ cn_q221) (hts _ q81) cd_X4_init ⟨Nat.le_of_ble_eq_true rfl, Nat.le_of_ble_eq_true rfl⟩, rfl, hts _ q222⟩ (cl_preS V [.ref bb16]) rfl rfl hl.1 rfl (lv_room (Nat.le_of_ble_eq_true rfl)) dX0_init_58 ⟨Nat.le_of_ble_eq_true rfl, Nat.le_of_ble_eq_true rfl⟩) V (fun ad _ _ hag hle V => ?_)
  replace e0 := e0.mv hag hle
  replace ee16 := ee16.mv hag hle
  obtain ⟨hg, hF⟩ := dx_gd_some hF
  have k18 := of_decide_eq_true hg
  refine cl_prF S V e0 k18 rfl (by decide) in_X0 tyX0 tyX0_ok nmX0 7 (by decide) rfl q275 rfl rfl hini rfl ee16 rfl rfl dX0_init_61 (fun _ _ V => ?_)
  obtain ⟨σ19, eσ19⟩ : ∃ x, x = (cl_wr σ17 o0 7 (cl_n (cl_wr σ14 o0 6 (cl_n σ12 + 1)) + 1)) := ⟨_, rfl⟩
  rw [← eσ19] at V
  replace hF := dx_let_e eσ19 hF
  replace e0 : cl_at ad σ19 a0 o0 := by rw [eσ19]; exact e0
  replace k18 : cl_k σ19 o0 = 0 := by rw [eσ19]; exact k18
  refine lv_aload_n hx hb dX0_init_64 rfl (lv_at hl 0 rfl) ?_
  refine lv_bipush (v := 16) hx hb dX0_init_65 (by decide) ?_
  refine cl_newr 6 27 S V (by decide) rfl q140 V.1.2.2.2.2.2.1 (by decide) (N' := 16) (by decide) (Nat.le_of_ble_eq_true rfl) (Nat.le_of_ble_eq_true rfl) (Nat.le_of_ble_eq_true rfl) dX0_init_67 (fun bb20 ad _ hag ee20 V => ?_)
  replace e0 := cl_at.nw 27 16 e0 hag
  have k20 : cl_k (cl_nw σ19 27 16) (cl_n σ19 + 1) = 27 := cl_k_nw
  obtain ⟨hg, hF⟩ := dx_gd_some hF
  have k21 := of_decide_eq_true hg
  refine cl_prF S V e0 k21 rfl (by decide) in_X0 tyX0 tyX0_ok nmX0 8 (by decide) rfl q276 rfl rfl hini rfl ee20 rfl rfl dX0_init_70 (fun _ _ V => ?_)
  refine lv_aload_n hx hb dX0_init_73 rfl (lv_at hl 0 rfl) ?_
  refine lv_iconst (v := 2) hx hb dX0_init_74 (by decide) ?_
  refine cl_newr 6 27 S V (by decide) rfl q140 V.1.2.2.2.2.2.1 (by decide) (N' := 2) (by decide) (Nat.le_of_ble_eq_true rfl) (Nat.le_of_ble_eq_true rfl) (Nat.le_of_ble_eq_true rfl) dX0_init_75 (fun bb22 ad _ hag ee22 V => ?_)
  replace e0 := cl_at.nw 27 2 e0 hag
  have k22 : cl_k (cl_nw (cl_wr (cl_nw σ19 27 16) o0 8 (cl_n σ19 + 1)) 27 2) (cl_n (cl_wr (cl_nw σ19 27 16) o0 8 (cl_n σ19 + 1)) + 1) = 27 := cl_k_nw
  obtain ⟨σ23, eσ23⟩ : ∃ x, x = (cl_nw (cl_wr (cl_nw σ19 27 16) o0 8 (cl_n σ19 + 1)) 27 2) := ⟨_, rfl⟩
  rw [← eσ23] at V
  replace hF := dx_let_e eσ23 hF
  replace e0 : cl_at ad σ23 a0 o0 := by rw [eσ23]; exact e0
  replace ee22 : cl_at ad σ23 bb22 (cl_n (cl_wr (cl_nw σ19 27 16) o0 8 (cl_n σ19 + 1)) + 1) := by rw [eσ23]; exact ee22
  replace k22 : cl_k σ23 (cl_n (cl_wr (cl_nw σ19 27 16) o0 8 (cl_n σ19 + 1)) + 1) = 27 := by rw [eσ23]; exact k22
  obtain ⟨hg, hF⟩ := dx_gd_some hF
  have k24 := of_decide_eq_true hg
  refine cl_prF S V e0 k24 rfl (by decide) in_X0 tyX0 tyX0_ok nmX0 10 (by decide) rfl q278 rfl rfl hini rfl ee22 rfl rfl dX0_init_78 (fun _ _ V => ?_)
  obtain ⟨σ25, eσ25⟩ : ∃ x, x = (cl_wr σ23 o0 10 (cl_n (cl_wr (cl_nw σ19 27 16) o0 8 (cl_n σ19 + 1)) + 1)) := ⟨_, rfl⟩
  rw [← eσ25] at V
  replace hF := dx_let_e eσ25 hF
  replace e0 : cl_at ad σ25 a0 o0 := by rw [eσ25]; exact e0
  replace k22 : cl_k σ25 (cl_n (cl_wr (cl_nw σ19 27 16) o0 8 (cl_n σ19 + 1)) + 1) = 27 := by rw [eσ25]; exact k22
  replace k24 : cl_k σ25 o0 = 0 := by rw [eσ25]; exact k24
  refine lv_aload_n hx hb dX0_init_81 rfl (lv_at hl 0 rfl) ?_
  refine cl_new S V rfl (by decide) in_X5 tyX5 tyX5_ok cl_dfX5 q253 q254 q82 (Nat.le_of_ble_eq_true rfl) (Nat.le_of_ble_eq_true rfl) dX0_init_82 (fun bb26 ad _ hag ee26 V => ?_)
  replace e0 := cl_at.nw 5 0 e0 hag
  have k26 : cl_k (cl_nw σ25 5 0) (cl_n σ25 + 1) = 5 := cl_k_nw
  refine lv_dup hx hb dX0_init_85 rfl ?_
  obtain ⟨σ27, h27c, hF⟩ := dx_b1_some hF
  refine cl_cv (va_runIN (As := []) S (cm_X5_init l D dA _ A bb26 (cl_n σ25 + 1)  (cl_nw σ25 5 0) _ ee26 h27c) ⟨va_cnB 0 hts (lw_meth q257) rfl rfl rfl (V.1.1 _ cn_q255) (hts _ q82) cd_X5_init ⟨Nat.le_of_ble_eq_true rfl, Nat.le_of_ble_eq_true rfl⟩, rfl, hts _ q256⟩ (cl_preS V [.ref bb26]) rfl rfl hl.1 rfl (lv_room (Nat.le_of_ble_eq_true rfl)) dX0_init_86 ⟨Nat.le_of_ble_eq_true rfl, Nat.le_of_ble_eq_true rfl⟩) V (fun ad _ _ hag hle V => ?_)
  replace e0 := e0.mv hag hle
  replace ee26 := ee26.mv hag hle
  obtain ⟨hg, hF⟩ := dx_gd_some hF
  have k28 := of_decide_eq_true hg
  refine cl_pr S V e0 k28 rfl (by decide) in_X0 tyX0 tyX0_ok nmX0 11 (by decide) rfl q279 rfl rfl ee26 rfl rfl dX0_init_89 (fun _ _ V => ?_)
  refine W.widen (k := 38) (n := 1743) (by first | omega | (dsimp only; omega)) (by first | omega | (dsimp only; omega)) ?_
  replace hF := Option.some.inj hF
  subst hF
  exact cl_rv S V hr hlocks dX0_init_92
theorem cd_X0_isIn : yX0_isIn.cls ≠ "java/lang/invoke/MethodHandle" ∧ yX0_isIn.cls ≠ "java/lang/invoke/VarHandle" ∧ (parseMethodDescriptor yX0_isIn.desc).map (fun d => d.parameters.length) = some 3 := by decide +kernel
set_option maxHeartbeats 4000000 in
set_option maxRecDepth 100000 in
theorem cm_X0_isIn (l : Launch) (p0 : Int64) (p1 : Int64) (p2 : Int64) (r : Bool) (hF : cl_X0_isIn p0 p1 p2 = some r) : dx_Pi l yX0_isIn cX0_isIn 6 .boolean ({ frames := 0, cells := 0, slots := 0, locals := 0 }) [.long p0, .long p1, .long p2] (dx_bI r) := by
  refine dx_in RX0 rfl (by decide) (Nat.le_of_ble_eq_true rfl) ?_
  intro p e s m below meth c ls S hr hlocks hv hl
  have hx := S.1
  have hb := S.2.1
  have hown := S.2.2.2.1
  have hts := S.2.2.2.2
  replace hl : lv_has ls 6 [(0, .long p0), (2, .long p1), (4, .long p2)] := hl
  unfold cl_X0_isIn at hF
  refine lv_lload_n hx hb dX0_isIn_0 rfl (lv_at hl 0 rfl) ?_
  refine lv_lload_n hx hb dX0_isIn_1 rfl (lv_at hl 1 rfl) ?_
  refine W.lcmp hx hb dX0_isIn_2 ?_
  refine lv_if_lt (tgt := 17) hx hb dX0_isIn_3 (by decide) (fun hc => ?_) (fun hc => ?_)
  · replace hF := (if_pos hc).symm.trans hF
    refine lv_iconst (v := 0) hx hb dX0_isIn_17 (by decide) ?_
    replace hF := Option.some.inj hF
    subst hF
    exact dx_rPi S hr hlocks rfl dX0_isIn_18
  · replace hF := (if_neg hc).symm.trans hF
    refine lv_lload_n hx hb dX0_isIn_6 rfl (lv_at hl 0 rfl) ?_
    refine lv_lload hx hb dX0_isIn_7 (lv_at hl 2 rfl) ?_
    refine W.lcmp hx hb dX0_isIn_9 ?_
    refine lv_if_gt (tgt := 17) hx hb dX0_isIn_10 (by decide) (fun hc => ?_) (fun hc => ?_)
    · replace hF := (if_pos hc).symm.trans hF
      refine lv_iconst (v := 0) hx hb dX0_isIn_17 (by decide) ?_
      replace hF := Option.some.inj hF
      subst hF
      exact dx_rPi S hr hlocks rfl dX0_isIn_18
    · replace hF := (if_neg hc).symm.trans hF
      refine lv_iconst (v := 1) hx hb dX0_isIn_13 (by decide) ?_
      refine lv_goto (tgt := 18) hx hb dX0_isIn_14 (by decide) ?_
      replace hF := Option.some.inj hF
      subst hF
      exact dx_rPi S hr hlocks rfl dX0_isIn_18
theorem cd_X0_isRow : yX0_isRow.cls ≠ "java/lang/invoke/MethodHandle" ∧ yX0_isRow.cls ≠ "java/lang/invoke/VarHandle" ∧ (parseMethodDescriptor yX0_isRow.desc).map (fun d => d.parameters.length) = some 1 := by decide +kernel
set_option maxHeartbeats 4000000 in
set_option maxRecDepth 100000 in
theorem cm_X0_isRow (l : Launch) (p0 : Int32) (r : Bool) (hF : cl_X0_isRow p0 = some r) : dx_Pi l yX0_isRow cX0_isRow 1 .boolean ({ frames := 1, cells := 0, slots := 0, locals := 25 }) [.int p0] (dx_bI r) := by
  refine dx_in RX0 rfl (by decide) (Nat.le_of_ble_eq_true rfl) ?_
  intro p e s m below meth c ls S hr hlocks hv hl
  have hx := S.1
  have hb := S.2.1
  have hown := S.2.2.2.1
  have hts := S.2.2.2.2
  replace hl : lv_has ls 1 [(0, .int p0)] := hl
  unfold cl_X0_isRow at hF
  refine lv_iload_n hx hb dX0_isRow_0 rfl (lv_at hl 0 rfl) ?_
  refine lv_i2l hx hb dX0_isRow_1 rfl ?_
  refine lv_lconst (v := 0) hx hb dX0_isRow_2 (by decide) ?_
  refine lv_ldc2 hx hb hown (hts _ q401) dX0_isRow_3 ?_
  obtain ⟨r1, h1c, hF⟩ := dx_b1_some hF
  refine dx_cPi S [.long p0.toInt64, .long (0 : Int64), .long (7 : Int64)] (cm_X0_isIn l p0.toInt64 (0 : Int64) (7 : Int64) _ h1c) (va_cwS 3 hts (lw_S q402 q403 q77 q404) rfl rfl rfl cd_X0_isIn ⟨Nat.le_of_ble_eq_true rfl, Nat.le_of_ble_eq_true rfl⟩) rfl rfl hl.1 (Nat.le_of_ble_eq_true rfl) dX0_isRow_6 ⟨Nat.zero_le _, Nat.zero_le _⟩ ?_
  replace hF := Option.some.inj hF
  subst hF
  exact dx_rPi S hr hlocks (dx_bI_nar _) dX0_isRow_9
theorem cd_X0_newLane : yX0_newLane.cls ≠ "java/lang/invoke/MethodHandle" ∧ yX0_newLane.cls ≠ "java/lang/invoke/VarHandle" ∧ (parseMethodDescriptor yX0_newLane.desc).map (fun d => d.parameters.length) = some 2 := by decide +kernel
set_option maxHeartbeats 4000000 in
set_option maxRecDepth 100000 in
theorem cm_X0_newLane (l : Launch) (hlt : l.stackTraces = false) (D : va_G) (dA : Nat → ClassId) (ad0 : Nat → Nat) (A : Nat → Prop)   (p0 : Int32) (p1 : Int32) (σ0 : cl_S) (z : Nat ⊕ Nat) (σ' : cl_S)  (hF : cl_X0_newLane σ0 p0 p1 = some (z, σ')) : cx_Cr l yX0_newLane cX0_newLane 2 (.object "java/lang/Object") ({ frames := 9, cells := 3, slots := 54, locals := 10248 }) D dA ad0 A [.int p0, .int p1] σ0 z σ' := by
  refine cx_in RX0 rfl (by decide) (Nat.le_of_ble_eq_true rfl) ?_
  intro p e s m below meth c ls S hr hlocks hini htab hv hl
  have hx := S.1
  have hb := S.2.1
  have hown := S.2.2.2.1
  have hts := S.2.2.2.2
  obtain ⟨hN, hK, hP, hD, hA, hZ⟩ := hv
  have V : cl_V D dA (ad0, cl_n σ0) ad0 A s.heap σ0 s s.heap [] := ⟨hN, hK, hP, hD, va_S.rf, hA, hZ, fun _ _ => rfl, Nat.le_refl _⟩
  obtain ⟨ad, V⟩ : ∃ ad, cl_V D dA (ad0, cl_n σ0) ad A s.heap σ0 s s.heap [] := ⟨ad0, V⟩
  replace hl : lv_has ls 2 [(0, .int p0), (1, .int p1)] := hl
  unfold cl_X0_newLane at hF
  refine lv_iload_n hx hb dX0_newLane_0 rfl (lv_at hl 0 rfl) ?_
  refine lv_if_ne (tgt := 10) hx hb dX0_newLane_1 (by decide) (fun hc => ?_) (fun hc => ?_)
  · replace hF := (if_neg hc).symm.trans hF
    refine lv_iload_n hx hb dX0_newLane_10 rfl (lv_at hl 0 rfl) ?_
    refine lv_iconst (v := 1) hx hb dX0_newLane_11 (by decide) ?_
    refine lv_icmp_ne (tgt := 21) hx hb dX0_newLane_12 (by decide) (fun hc => ?_) (fun hc => ?_)
    · replace hF := (if_neg hc).symm.trans hF
      refine lv_iload_n hx hb dX0_newLane_21 rfl (lv_at hl 1 rfl) ?_
      by_cases hneg : p1 < 0
      · replace hF := (if_pos hneg).symm.trans hF
        refine cx_neg S V hlt hlocks hl.1 (Nat.le_of_ble_eq_true rfl) ⟨Nat.le_of_ble_eq_true rfl, Nat.le_of_ble_eq_true rfl⟩ ⟨Nat.le_of_ble_eq_true rfl, Nat.le_of_ble_eq_true rfl⟩ hneg dX0_newLane_22 (fun _ q9 ce V hce hcv hcl => ?_)
        obtain ⟨hF1, hF2⟩ := dx_r2 hF
        subst hF1
        subst hF2
        exact cx_out V htab hlocks (cx_qx_s (by decide)) hce hcv hcl (by first | omega | (dsimp only; omega)) (by first | omega | (dsimp only; omega))
      · replace hF := (if_neg hneg).symm.trans hF
        obtain ⟨hg, hF⟩ := dx_gd_some hF
        replace hg := of_decide_eq_true hg
        refine cl_newaM 0 20 40 (atype := .int) S V (by decide) (by decide) (by decide) rfl rfl (fun _ _ h => h) q207 rfl hg (Nat.le_of_ble_eq_true rfl) (by decide) (Nat.le_of_ble_eq_true rfl) (Nat.le_of_ble_eq_true rfl) dX0_newLane_22 (fun bb1 ad _ hag ee1 V => ?_)
        have k1 : cl_k (cl_nw σ0 20 p1.toNatClampNeg) (cl_n σ0 + 1) = 20 := cl_k_nw
        refine W.widen (k := 3) (n := 54) (by first | omega | (dsimp only; omega)) (by first | omega | (dsimp only; omega)) ?_
        obtain ⟨hF1, hF2⟩ := dx_r2 hF
        subst hF1
        subst hF2
        exact cx_rr S V hr (Or.inl ⟨_, rfl⟩) hlocks ee1 dX0_newLane_24
    · replace hF := (if_pos hc).symm.trans hF
      refine lv_iload_n hx hb dX0_newLane_15 rfl (lv_at hl 1 rfl) ?_
      by_cases hneg : p1 < 0
      · replace hF := (if_pos hneg).symm.trans hF
        refine cx_neg S V hlt hlocks hl.1 (Nat.le_of_ble_eq_true rfl) ⟨Nat.le_of_ble_eq_true rfl, Nat.le_of_ble_eq_true rfl⟩ ⟨Nat.le_of_ble_eq_true rfl, Nat.le_of_ble_eq_true rfl⟩ hneg dX0_newLane_16 (fun _ q9 ce V hce hcv hcl => ?_)
        obtain ⟨hF1, hF2⟩ := dx_r2 hF
        subst hF1
        subst hF2
        exact cx_out V htab hlocks (cx_qx_s (by decide)) hce hcv hcl (by first | omega | (dsimp only; omega)) (by first | omega | (dsimp only; omega))
      · replace hF := (if_neg hneg).symm.trans hF
        obtain ⟨hg, hF⟩ := dx_gd_some hF
        replace hg := of_decide_eq_true hg
        refine cl_newaM 2 22 40 (atype := .short) S V (by decide) (by decide) (by decide) rfl rfl (fun _ _ h => h) q419 rfl hg (Nat.le_of_ble_eq_true rfl) (by decide) (Nat.le_of_ble_eq_true rfl) (Nat.le_of_ble_eq_true rfl) dX0_newLane_16 (fun bb2 ad _ hag ee2 V => ?_)
        have k2 : cl_k (cl_nw σ0 22 p1.toNatClampNeg) (cl_n σ0 + 1) = 22 := cl_k_nw
        refine lv_goto (tgt := 24) hx hb dX0_newLane_18 (by decide) ?_
        refine W.widen (k := 3) (n := 54) (by first | omega | (dsimp only; omega)) (by first | omega | (dsimp only; omega)) ?_
        obtain ⟨hF1, hF2⟩ := dx_r2 hF
        subst hF1
        subst hF2
        exact cx_rr S V hr (Or.inl ⟨_, rfl⟩) hlocks ee2 dX0_newLane_24
  · replace hF := (if_pos hc).symm.trans hF
    refine lv_iload_n hx hb dX0_newLane_4 rfl (lv_at hl 1 rfl) ?_
    by_cases hneg : p1 < 0
    · replace hF := (if_pos hneg).symm.trans hF
      refine cx_neg S V hlt hlocks hl.1 (Nat.le_of_ble_eq_true rfl) ⟨Nat.le_of_ble_eq_true rfl, Nat.le_of_ble_eq_true rfl⟩ ⟨Nat.le_of_ble_eq_true rfl, Nat.le_of_ble_eq_true rfl⟩ hneg dX0_newLane_5 (fun _ q9 ce V hce hcv hcl => ?_)
      obtain ⟨hF1, hF2⟩ := dx_r2 hF
      subst hF1
      subst hF2
      exact cx_out V htab hlocks (cx_qx_s (by decide)) hce hcv hcl (by first | omega | (dsimp only; omega)) (by first | omega | (dsimp only; omega))
    · replace hF := (if_neg hneg).symm.trans hF
      obtain ⟨hg, hF⟩ := dx_gd_some hF
      replace hg := of_decide_eq_true hg
      refine cl_newaM 1 21 40 (atype := .byte) S V (by decide) (by decide) (by decide) rfl rfl (fun _ _ h => h) q206 rfl hg (Nat.le_of_ble_eq_true rfl) (by decide) (Nat.le_of_ble_eq_true rfl) (Nat.le_of_ble_eq_true rfl) dX0_newLane_5 (fun bb3 ad _ hag ee3 V => ?_)
      have k3 : cl_k (cl_nw σ0 21 p1.toNatClampNeg) (cl_n σ0 + 1) = 21 := cl_k_nw
      refine lv_goto (tgt := 24) hx hb dX0_newLane_7 (by decide) ?_
      refine W.widen (k := 3) (n := 54) (by first | omega | (dsimp only; omega)) (by first | omega | (dsimp only; omega)) ?_
      obtain ⟨hF1, hF2⟩ := dx_r2 hF
      subst hF1
      subst hF2
      exact cx_rr S V hr (Or.inl ⟨_, rfl⟩) hlocks ee3 dX0_newLane_24
theorem cd_X0_well : yX0_well.cls ≠ "java/lang/invoke/MethodHandle" ∧ yX0_well.cls ≠ "java/lang/invoke/VarHandle" ∧ (parseMethodDescriptor yX0_well.desc).map (fun d => d.parameters.length) = some 1 := by decide +kernel
set_option maxHeartbeats 4000000 in
set_option maxRecDepth 100000 in
theorem cm_X0_well (l : Launch) (D : va_G) (dA : Nat → ClassId) (ad0 : Nat → Nat) (A : Nat → Prop) (a0 : Nat) (o0 : Nat) (p0 : Int32) (σ0 : cl_S) (r : Int32) (σ' : cl_S) (e0 : cl_at ad0 σ0 a0 o0) (hF : cl_X0_well o0 σ0 p0 = some (r, σ')) : cl_Ci l yX0_well cX0_well 2 .int ({ frames := 0, cells := 0, slots := 0, locals := 0 }) D dA ad0 A [.ref a0, .int p0] σ0 r σ' := by
  refine cl_in RX0 rfl (by decide) (Nat.le_of_ble_eq_true rfl) ?_
  intro p e s m below meth c ls S hr hlocks hini hv hl
  have hx := S.1
  have hb := S.2.1
  have hown := S.2.2.2.1
  have hts := S.2.2.2.2
  obtain ⟨hN, hK, hP, hD, hA, hZ⟩ := hv
  have V : cl_V D dA (ad0, cl_n σ0) ad0 A s.heap σ0 s s.heap [] := ⟨hN, hK, hP, hD, va_S.rf, hA, hZ, fun _ _ => rfl, Nat.le_refl _⟩
  obtain ⟨ad, V, e0⟩ : ∃ ad, cl_V D dA (ad0, cl_n σ0) ad A s.heap σ0 s s.heap [] ∧ cl_at ad σ0 a0 o0 := ⟨ad0, V, e0⟩
  replace hl : lv_has ls 2 [(0, .ref a0), (1, .int p0)] := hl
  unfold cl_X0_well at hF
  refine lv_aload_n hx hb dX0_well_0 rfl (lv_at hl 0 rfl) ?_
  refine lv_iconst (v := 0) hx hb dX0_well_1 (by decide) ?_
  obtain ⟨hg, hF⟩ := dx_gd_some hF
  have k1 := of_decide_eq_true hg
  refine cl_pi S V e0 k1 rfl (by decide) in_X0 tyX0 tyX0_ok nmX0 12 (by decide) rfl q280 rfl rfl rfl dX0_well_2 (fun _ _ V => ?_)
  refine lv_iload_n hx hb dX0_well_5 rfl (lv_at hl 1 rfl) ?_
  obtain ⟨hF1, hF2⟩ := dx_r2 hF
  subst hF1
  subst hF2
  exact cl_ri S V hr hlocks rfl dX0_well_6
theorem cd_X0_found : yX0_found.cls ≠ "java/lang/invoke/MethodHandle" ∧ yX0_found.cls ≠ "java/lang/invoke/VarHandle" ∧ (parseMethodDescriptor yX0_found.desc).map (fun d => d.parameters.length) = some 1 := by decide +kernel
set_option maxHeartbeats 4000000 in
set_option maxRecDepth 100000 in
theorem cm_X0_found (l : Launch) (D : va_G) (dA : Nat → ClassId) (ad0 : Nat → Nat) (A : Nat → Prop) (a0 : Nat) (o0 : Nat) (p0 : Int32) (σ0 : cl_S) (r : Int32) (σ' : cl_S) (e0 : cl_at ad0 σ0 a0 o0) (hF : cl_X0_found o0 σ0 p0 = some (r, σ')) : cl_Ci l yX0_found cX0_found 2 .int ({ frames := 0, cells := 0, slots := 0, locals := 0 }) D dA ad0 A [.ref a0, .int p0] σ0 r σ' := by
  refine cl_in RX0 rfl (by decide) (Nat.le_of_ble_eq_true rfl) ?_
  intro p e s m below meth c ls S hr hlocks hini hv hl
  have hx := S.1
  have hb := S.2.1
  have hown := S.2.2.2.1
  have hts := S.2.2.2.2
  obtain ⟨hN, hK, hP, hD, hA, hZ⟩ := hv
  have V : cl_V D dA (ad0, cl_n σ0) ad0 A s.heap σ0 s s.heap [] := ⟨hN, hK, hP, hD, va_S.rf, hA, hZ, fun _ _ => rfl, Nat.le_refl _⟩
  obtain ⟨ad, V, e0⟩ : ∃ ad, cl_V D dA (ad0, cl_n σ0) ad A s.heap σ0 s s.heap [] ∧ cl_at ad σ0 a0 o0 := ⟨ad0, V, e0⟩
  replace hl : lv_has ls 2 [(0, .ref a0), (1, .int p0)] := hl
  unfold cl_X0_found at hF
  refine lv_aload_n hx hb dX0_found_0 rfl (lv_at hl 0 rfl) ?_
  refine lv_iload_n hx hb dX0_found_1 rfl (lv_at hl 1 rfl) ?_
  obtain ⟨hg, hF⟩ := dx_gd_some hF
  have k1 := of_decide_eq_true hg
  refine cl_pi S V e0 k1 rfl (by decide) in_X0 tyX0 tyX0_ok nmX0 12 (by decide) rfl q280 rfl rfl rfl dX0_found_2 (fun _ _ V => ?_)
  refine lv_ldc hx hb hown (hts _ q418) dX0_found_5 ?_
  refine lv_iload_n hx hb dX0_found_7 rfl (lv_at hl 1 rfl) ?_
  refine lv_isub hx hb dX0_found_8 ?_
  obtain ⟨hF1, hF2⟩ := dx_r2 hF
  subst hF1
  subst hF2
  exact cl_ri S V hr hlocks rfl dX0_found_9
theorem cd_X0_row : yX0_row.cls ≠ "java/lang/invoke/MethodHandle" ∧ yX0_row.cls ≠ "java/lang/invoke/VarHandle" ∧ (parseMethodDescriptor yX0_row.desc).map (fun d => d.parameters.length) = some 3 := by decide +kernel
set_option maxHeartbeats 4000000 in
set_option maxRecDepth 100000 in
theorem cm_X0_row (l : Launch) (hlt : l.stackTraces = false) (D : va_G) (dA : Nat → ClassId) (ad0 : Nat → Nat) (A : Nat → Prop) (a0 : Nat) (o0 : Nat) (p0 : Int32) (p1 : Int32) (p2 : Int32) (σ0 : cl_S) (r : Int32) (σ' : cl_S) (e0 : cl_at ad0 σ0 a0 o0) (hF : cl_X0_row o0 σ0 p0 p1 p2 = some (r, σ')) : cx_Hi l yX0_row cX0_row 5 .int [(28, 47, 48, 122)] ({ frames := 10, cells := 3, slots := 54, locals := 10269 }) D dA ad0 A [.ref a0, .int p0, .int p1, .int p2] σ0 r σ' := by
  refine cx_inH RX0 rfl (by decide) (Nat.le_of_ble_eq_true rfl) ?_
  intro p e s m below meth c ls S hr hlocks hini htab hv hl
  have hx := S.1
  have hb := S.2.1
  have hown := S.2.2.2.1
  have hts := S.2.2.2.2
  obtain ⟨hN, hK, hP, hD, hA, hZ⟩ := hv
  have V : cl_V D dA (ad0, cl_n σ0) ad0 A s.heap σ0 s s.heap [] := ⟨hN, hK, hP, hD, va_S.rf, hA, hZ, fun _ _ => rfl, Nat.le_refl _⟩
  obtain ⟨ad, V, e0⟩ : ∃ ad, cl_V D dA (ad0, cl_n σ0) ad A s.heap σ0 s s.heap [] ∧ cl_at ad σ0 a0 o0 := ⟨ad0, V, e0⟩
  replace hl : lv_has ls 5 [(0, .ref a0), (1, .int p0), (2, .int p1), (3, .int p2)] := hl
  unfold cl_X0_row at hF
  refine lv_iload_n hx hb dX0_row_0 rfl (lv_at hl 1 rfl) ?_
  obtain ⟨r1, h1c, hF⟩ := dx_b1_some hF
  refine dx_cPi S [.int p0] (cm_X0_isRow l p0 _ h1c) (va_cwS 1 hts (lw_S q398 q399 q77 q400) rfl rfl rfl cd_X0_isRow ⟨Nat.le_of_ble_eq_true rfl, Nat.le_of_ble_eq_true rfl⟩) rfl rfl hl.1 (Nat.le_of_ble_eq_true rfl) dX0_row_1 ⟨Nat.le_of_ble_eq_true rfl, Nat.le_of_ble_eq_true rfl⟩ ?_
  refine lv_if_eq (tgt := 25) hx hb dX0_row_4 (by decide) (fun hc => ?_) (fun hc => ?_)
  · replace hF := dx_ib_f (dx_bI_0 hc) hF
    refine lv_ldc hx hb hown (hts _ q406) dX0_row_25 ?_
    refine W.widen (k := 3) (n := 54) (by first | omega | (dsimp only; omega)) (by first | omega | (dsimp only; omega)) ?_
    obtain ⟨hF1, hF2⟩ := dx_r2 hF
    subst hF1
    subst hF2
    exact vx_ret (cl_ri S V hr hlocks rfl dX0_row_27)
  · replace hF := dx_ib_t (dx_bI_n hc) hF
    refine lv_iload_n hx hb dX0_row_7 rfl (lv_at hl 2 rfl) ?_
    refine lv_i2l hx hb dX0_row_8 rfl ?_
    refine lv_lconst (v := 0) hx hb dX0_row_9 (by decide) ?_
    refine lv_ldc2 hx hb hown (hts _ q405) dX0_row_10 ?_
    obtain ⟨r2, h2c, hF⟩ := dx_b1_some hF
    refine dx_cPi S [.long p1.toInt64, .long (0 : Int64), .long (2 : Int64)] (cm_X0_isIn l p1.toInt64 (0 : Int64) (2 : Int64) _ h2c) (va_cwS 3 hts (lw_S q402 q403 q77 q404) rfl rfl rfl cd_X0_isIn ⟨Nat.le_of_ble_eq_true rfl, Nat.le_of_ble_eq_true rfl⟩) rfl rfl hl.1 (Nat.le_of_ble_eq_true rfl) dX0_row_13 ⟨Nat.le_of_ble_eq_true rfl, Nat.le_of_ble_eq_true rfl⟩ ?_
    refine lv_if_eq (tgt := 25) hx hb dX0_row_16 (by decide) (fun hc => ?_) (fun hc => ?_)
    · replace hF := dx_ib_f (dx_bI_0 hc) hF
      refine lv_ldc hx hb hown (hts _ q406) dX0_row_25 ?_
      refine W.widen (k := 3) (n := 54) (by first | omega | (dsimp only; omega)) (by first | omega | (dsimp only; omega)) ?_
      obtain ⟨hF1, hF2⟩ := dx_r2 hF
      subst hF1
      subst hF2
      exact vx_ret (cl_ri S V hr hlocks rfl dX0_row_27)
    · replace hF := dx_ib_t (dx_bI_n hc) hF
      refine lv_iload_n hx hb dX0_row_19 rfl (lv_at hl 3 rfl) ?_
      refine lv_bipush (v := 40) hx hb dX0_row_20 (by decide) ?_
      refine lv_icmp_le (tgt := 28) hx hb dX0_row_22 (by decide) (fun hc => ?_) (fun hc => ?_)
      · replace hF := (if_pos hc).symm.trans hF
        refine lv_aload_n hx hb dX0_row_28 rfl (lv_at hl 0 rfl) ?_
        obtain ⟨hg, hF⟩ := dx_gd_some hF
        have k3 := of_decide_eq_true hg
        obtain ⟨hg, hF⟩ := dx_gd_some hF
        refine cl_gr S V e0 k3 rfl (by decide) in_X0 0 (by decide) rfl q268 rfl dX0_row_29 (of_decide_eq_true hg) (fun bb4 ee4 => ?_)
        refine lv_iload_n hx hb dX0_row_32 rfl (lv_at hl 1 rfl) ?_
        obtain ⟨hg, hF⟩ := dx_gd_some hF
        have k5 := of_decide_eq_true hg
        obtain ⟨hi6, hF⟩ := dx_gd_some hF
        obtain ⟨hg, hF⟩ := dx_gd_some hF
        refine cl_lr 3 24 S V ee4 k5 (by decide) rfl (dx_inb_in hi6) dX0_row_33 (of_decide_eq_true hg) (fun bb7 ee7 => ?_)
        refine lv_iload_n hx hb dX0_row_34 rfl (lv_at hl 2 rfl) ?_
        refine lv_iload_n hx hb dX0_row_35 rfl (lv_at hl 3 rfl) ?_
        obtain ⟨z8, σ8, h8c, hF⟩ := dx_bx_some hF
        refine cx_cr (vx_runS (As := [.int p1, .int p2]) S (cm_X0_newLane l hlt D dA _ A   p1 p2 σ0 _ _  h8c) (va_cwS 2 hts (lw_S q407 q408 q77 q409) rfl rfl rfl cd_X0_newLane ⟨Nat.le_of_ble_eq_true rfl, Nat.le_of_ble_eq_true rfl⟩) (cl_preS V [.int p1, .int p2]) rfl rfl hl.1 rfl (lv_room (Nat.le_of_ble_eq_true rfl)) dX0_row_36 ⟨Nat.le_of_ble_eq_true rfl, Nat.le_of_ble_eq_true rfl⟩) V (dx_xs_nz hF) (fun x8 ce q9 ad _ _ hz hag hle hq9 V hce hcv hcl => ?_) (fun r8 bb8 ad _ _ hz hag hle ee8 V => ?_)
        · subst hz
          replace hF := dx_xs_r hF
          replace ee7 := ee7.mv hag hle
          replace e0 := e0.mv hag hle
          by_cases hc : x8 = 4
          · replace hF := (if_pos hc).symm.trans hF
            subst hc
            refine vx_catch (E := "java/lang/NegativeArraySizeException") (name := "java/lang/NegativeArraySizeException") hown [] ⟨28, 47, 48, 122⟩ [] (by rw [htab]; rfl) (fun z h => nomatch h) rfl (by decide) (hts _ q312) (va_Nw.use rfl (V.1.1 _ cn_q376)) hce hcv hcl ?_
            refine lv_astore (lv' := [(4, .ref q9), (0, .ref a0), (1, .int p0), (2, .int p1), (3, .int p2)]) hx hb dX0_row_48 hl (by decide) rfl (fun ls hl => ?_)
            refine lv_aload_n hx hb dX0_row_50 rfl (lv_at hl 1 rfl) ?_
            refine lv_iconst (v := 4) hx hb dX0_row_51 (by decide) ?_
            obtain ⟨hg, hF⟩ := dx_gd_some hF
            have k10 := of_decide_eq_true hg
            obtain ⟨r9, σ9, h9c, hF⟩ := dx_b2_some hF
            refine cl_ci (va_runV (As := [.int (4 : Int32)]) S (cm_X0_found l D dA _ A a0 o0 (4 : Int32) σ8 _ _ e0 h9c) (cwV 1 hts (lw_V q414 q416 qs3 q77 q417) rfl rfl rfl ⟨rfl, cd_X0_found⟩ ⟨Nat.le_of_ble_eq_true rfl, Nat.le_of_ble_eq_true rfl⟩) (cl_preV V [.int (4 : Int32)] e0 k10 rfl (by decide)) rfl rfl hl.1 rfl (lv_room (Nat.le_of_ble_eq_true rfl)) dX0_row_52 ⟨Nat.le_of_ble_eq_true rfl, Nat.le_of_ble_eq_true rfl⟩) V (fun ad _ _ hag hle V => ?_)
            replace e0 := e0.mv hag hle
            refine W.widen (k := 3) (n := 54) (by first | omega | (dsimp only; omega)) (by first | omega | (dsimp only; omega)) ?_
            obtain ⟨hF1, hF2⟩ := dx_r2 hF
            subst hF1
            subst hF2
            exact vx_ret (cl_ri S V hr hlocks rfl dX0_row_55)
          replace hF := (if_neg hc).symm.trans hF
          clear hc
          cases hF
        · subst hz
          replace hF := dx_xs_l hF
          replace hF := (dx_gd_some hF).2
          replace ee7 := ee7.mv hag hle
          replace e0 := e0.mv hag hle
          obtain ⟨hg, hF⟩ := dx_gd_some hF
          have k11 := of_decide_eq_true hg
          refine cl_prN S V ee7 k11 rfl (by decide) in_X1 tyX1 tyX1_ok nmX1 0 (by decide) rfl cn_q136 rfl rfl ee8 rfl rfl dX0_row_39 (fun _ _ V => ?_)
          obtain ⟨σ12, eσ12⟩ : ∃ x, x = (cl_wr σ8 (cl_r σ0 (cl_r σ0 o0 0) p0.toNatClampNeg) 0 r8) := ⟨_, rfl⟩
          rw [← eσ12] at V
          replace hF := dx_let_e eσ12 hF
          replace e0 : cl_at ad σ12 a0 o0 := by rw [eσ12]; exact e0
          replace k11 : cl_k σ12 (cl_r σ0 (cl_r σ0 o0 0) p0.toNatClampNeg) = 1 := by rw [eσ12]; exact k11
          refine lv_aload_n hx hb dX0_row_42 rfl (lv_at hl 0 rfl) ?_
          refine lv_iload_n hx hb dX0_row_43 rfl (lv_at hl 3 rfl) ?_
          obtain ⟨hg, hF⟩ := dx_gd_some hF
          have k14 := of_decide_eq_true hg
          obtain ⟨r13, σ13, h13c, hF⟩ := dx_b2_some hF
          refine cl_ci (va_runV (As := [.int p2]) S (cm_X0_well l D dA _ A a0 o0 p2 σ12 _ _ e0 h13c) (cwV 1 hts (lw_V q410 q412 qs2 q77 q413) rfl rfl rfl ⟨rfl, cd_X0_well⟩ ⟨Nat.le_of_ble_eq_true rfl, Nat.le_of_ble_eq_true rfl⟩) (cl_preV V [.int p2] e0 k14 rfl (by decide)) rfl rfl hl.1 rfl (lv_room (Nat.le_of_ble_eq_true rfl)) dX0_row_44 ⟨Nat.le_of_ble_eq_true rfl, Nat.le_of_ble_eq_true rfl⟩) V (fun ad _ _ hag hle V => ?_)
          replace e0 := e0.mv hag hle
          refine W.widen (k := 3) (n := 54) (by first | omega | (dsimp only; omega)) (by first | omega | (dsimp only; omega)) ?_
          obtain ⟨hF1, hF2⟩ := dx_r2 hF
          subst hF1
          subst hF2
          exact vx_ret (cl_ri S V hr hlocks rfl dX0_row_47)
      · replace hF := (if_neg hc).symm.trans hF
        refine lv_ldc hx hb hown (hts _ q406) dX0_row_25 ?_
        refine W.widen (k := 3) (n := 54) (by first | omega | (dsimp only; omega)) (by first | omega | (dsimp only; omega)) ?_
        obtain ⟨hF1, hF2⟩ := dx_r2 hF
        subst hF1
        subst hF2
        exact vx_ret (cl_ri S V hr hlocks rfl dX0_row_27)
theorem cd_X1_at : yX1_at.cls ≠ "java/lang/invoke/MethodHandle" ∧ yX1_at.cls ≠ "java/lang/invoke/VarHandle" ∧ (parseMethodDescriptor yX1_at.desc).map (fun d => d.parameters.length) = some 1 := by decide +kernel
set_option maxHeartbeats 4000000 in
set_option maxRecDepth 100000 in
theorem cm_X1_at (l : Launch) (D : va_G) (dA : Nat → ClassId) (ad0 : Nat → Nat) (A : Nat → Prop) (a0 : Nat) (o0 : Nat) (p0 : Int32) (σ0 : cl_S) (r : Int32) (e0 : cl_at ad0 σ0 a0 o0) (hF : cl_X1_at o0 σ0 p0 = some r) : cl_Ci l yX1_at cX1_at 2 .int ({ frames := 0, cells := 0, slots := 0, locals := 0 }) D dA ad0 A [.ref a0, .int p0] σ0 r σ0 := by
  refine cl_in RX1 rfl (by decide) (Nat.le_of_ble_eq_true rfl) ?_
  intro p e s m below meth c ls S hr hlocks hini hv hl
  have hx := S.1
  have hb := S.2.1
  have hown := S.2.2.2.1
  have hts := S.2.2.2.2
  obtain ⟨hN, hK, hP, hD, hA, hZ⟩ := hv
  have V : cl_V D dA (ad0, cl_n σ0) ad0 A s.heap σ0 s s.heap [] := ⟨hN, hK, hP, hD, va_S.rf, hA, hZ, fun _ _ => rfl, Nat.le_refl _⟩
  obtain ⟨ad, V, e0⟩ : ∃ ad, cl_V D dA (ad0, cl_n σ0) ad A s.heap σ0 s s.heap [] ∧ cl_at ad σ0 a0 o0 := ⟨ad0, V, e0⟩
  replace hl : lv_has ls 2 [(0, .ref a0), (1, .int p0)] := hl
  unfold cl_X1_at at hF
  refine lv_aload_n hx hb dX1_at_0 rfl (lv_at hl 0 rfl) ?_
  obtain ⟨hg, hF⟩ := dx_gd_some hF
  have k1 := of_decide_eq_true hg
  obtain ⟨hg, hF⟩ := dx_gd_some hF
  refine cl_gr S V e0 k1 rfl (by decide) in_X1 0 (by decide) rfl q135 rfl dX1_at_1 (of_decide_eq_true hg) (fun bb2 ee2 => ?_)
  by_cases k3 : cl_k σ0 (cl_r σ0 o0 0) = 21
  · replace hF := (if_pos k3).symm.trans hF
    refine va_instE hx hb hown (hts _ q472) (cl_recvB V ee2 k3) dX1_at_4 ?_
    refine lv_if_eq (tgt := 20) hx hb dX1_at_7 (by decide) (fun hc => ?_) (fun hc => ?_)
    · exact absurd hc (by decide)
    · refine lv_aload_n hx hb dX1_at_10 rfl (lv_at hl 0 rfl) ?_
      obtain ⟨hg, hF⟩ := dx_gd_some hF
      refine cl_gr S V e0 k1 rfl (by decide) in_X1 0 (by decide) rfl q135 rfl dX1_at_11 (of_decide_eq_true hg) (fun bb4 ee4 => ?_)
      refine va_castE hx hb hown (hts _ q472) (cl_recvB V ee4 k3) dX1_at_14 ?_
      refine lv_iload_n hx hb dX1_at_17 rfl (lv_at hl 1 rfl) ?_
      obtain ⟨hg, hF⟩ := dx_gd_some hF
      refine cl_ldb S V ee4 k3 (dx_inb_in hg) dX1_at_18 ?_
      replace hF := Option.some.inj hF
      subst hF
      exact cl_ri S V hr hlocks rfl dX1_at_19
  replace hF := (if_neg k3).symm.trans hF
  by_cases k5 : cl_k σ0 (cl_r σ0 o0 0) = 22
  · replace hF := (if_pos k5).symm.trans hF
    refine va_instNo (C := "[S") hx hb hown (hts _ q472) (V.1.2.2.2.2.2.2.1.2.2.1 _ nc_0) (cl_recvSh V ee2 k5) dX1_at_4 ?_
    refine lv_if_eq (tgt := 20) hx hb dX1_at_7 (by decide) (fun hc => ?_) (fun hc => ?_)
    · refine lv_aload_n hx hb dX1_at_20 rfl (lv_at hl 0 rfl) ?_
      obtain ⟨hg, hF⟩ := dx_gd_some hF
      refine cl_gr S V e0 k1 rfl (by decide) in_X1 0 (by decide) rfl q135 rfl dX1_at_21 (of_decide_eq_true hg) (fun bb6 ee6 => ?_)
      refine va_instE hx hb hown (hts _ q473) (cl_recvSh V ee6 k5) dX1_at_24 ?_
      refine lv_if_eq (tgt := 40) hx hb dX1_at_27 (by decide) (fun hc => ?_) (fun hc => ?_)
      · exact absurd hc (by decide)
      · refine lv_aload_n hx hb dX1_at_30 rfl (lv_at hl 0 rfl) ?_
        obtain ⟨hg, hF⟩ := dx_gd_some hF
        refine cl_gr S V e0 k1 rfl (by decide) in_X1 0 (by decide) rfl q135 rfl dX1_at_31 (of_decide_eq_true hg) (fun bb7 ee7 => ?_)
        refine va_castE hx hb hown (hts _ q473) (cl_recvSh V ee7 k5) dX1_at_34 ?_
        refine lv_iload_n hx hb dX1_at_37 rfl (lv_at hl 1 rfl) ?_
        obtain ⟨hg, hF⟩ := dx_gd_some hF
        refine cl_lds S V ee7 k5 (dx_inb_in hg) dX1_at_38 ?_
        replace hF := Option.some.inj hF
        subst hF
        exact cl_ri S V hr hlocks rfl dX1_at_39
    · exact absurd hc (by decide)
  replace hF := (if_neg k5).symm.trans hF
  by_cases k8 : cl_k σ0 (cl_r σ0 o0 0) = 20
  · replace hF := (if_pos k8).symm.trans hF
    refine va_instNo (C := "[I") hx hb hown (hts _ q472) (V.1.2.2.2.2.2.2.1.2.2.1 _ nc_1) (cl_recvI V ee2 k8) dX1_at_4 ?_
    refine lv_if_eq (tgt := 20) hx hb dX1_at_7 (by decide) (fun hc => ?_) (fun hc => ?_)
    · refine lv_aload_n hx hb dX1_at_20 rfl (lv_at hl 0 rfl) ?_
      obtain ⟨hg, hF⟩ := dx_gd_some hF
      refine cl_gr S V e0 k1 rfl (by decide) in_X1 0 (by decide) rfl q135 rfl dX1_at_21 (of_decide_eq_true hg) (fun bb9 ee9 => ?_)
      refine va_instNo (C := "[I") hx hb hown (hts _ q473) (V.1.2.2.2.2.2.2.1.2.2.1 _ nc_2) (cl_recvI V ee9 k8) dX1_at_24 ?_
      refine lv_if_eq (tgt := 40) hx hb dX1_at_27 (by decide) (fun hc => ?_) (fun hc => ?_)
      · refine lv_aload_n hx hb dX1_at_40 rfl (lv_at hl 0 rfl) ?_
        obtain ⟨hg, hF⟩ := dx_gd_some hF
        refine cl_gr S V e0 k1 rfl (by decide) in_X1 0 (by decide) rfl q135 rfl dX1_at_41 (of_decide_eq_true hg) (fun bb10 ee10 => ?_)
        refine va_castE hx hb hown (hts _ q474) (cl_recvI V ee10 k8) dX1_at_44 ?_
        refine lv_iload_n hx hb dX1_at_47 rfl (lv_at hl 1 rfl) ?_
        obtain ⟨hg, hF⟩ := dx_gd_some hF
        refine cl_ld S V ee10 k8 (dx_inb_in hg) dX1_at_48 ?_
        replace hF := Option.some.inj hF
        subst hF
        exact cl_ri S V hr hlocks rfl dX1_at_49
      · exact absurd hc (by decide)
    · exact absurd hc (by decide)
  replace hF := (if_neg k8).symm.trans hF
  cases hF
theorem cd_X1_put : yX1_put.cls ≠ "java/lang/invoke/MethodHandle" ∧ yX1_put.cls ≠ "java/lang/invoke/VarHandle" ∧ (parseMethodDescriptor yX1_put.desc).map (fun d => d.parameters.length) = some 2 := by decide +kernel
set_option maxHeartbeats 4000000 in
set_option maxRecDepth 100000 in
theorem cm_X1_put (l : Launch) (hlt : l.stackTraces = false) (D : va_G) (dA : Nat → ClassId) (ad0 : Nat → Nat) (A : Nat → Prop) (a0 : Nat) (o0 : Nat) (p0 : Int32) (p1 : Int32) (σ0 : cl_S) (z : Int32 ⊕ Nat) (σ' : cl_S) (e0 : cl_at ad0 σ0 a0 o0) (hF : cl_X1_put o0 σ0 p0 p1 = some (z, σ')) : cx_Ci l yX1_put cX1_put 3 .int ({ frames := 9, cells := 3, slots := 222, locals := 10248 }) D dA ad0 A [.ref a0, .int p0, .int p1] σ0 z σ' := by
  refine cx_in RX1 rfl (by decide) (Nat.le_of_ble_eq_true rfl) ?_
  intro p e s m below meth c ls S hr hlocks hini htab hv hl
  have hx := S.1
  have hb := S.2.1
  have hown := S.2.2.2.1
  have hts := S.2.2.2.2
  obtain ⟨hN, hK, hP, hD, hA, hZ⟩ := hv
  have V : cl_V D dA (ad0, cl_n σ0) ad0 A s.heap σ0 s s.heap [] := ⟨hN, hK, hP, hD, va_S.rf, hA, hZ, fun _ _ => rfl, Nat.le_refl _⟩
  obtain ⟨ad, V, e0⟩ : ∃ ad, cl_V D dA (ad0, cl_n σ0) ad A s.heap σ0 s s.heap [] ∧ cl_at ad σ0 a0 o0 := ⟨ad0, V, e0⟩
  replace hl : lv_has ls 3 [(0, .ref a0), (1, .int p0), (2, .int p1)] := hl
  unfold cl_X1_put at hF
  have hJ58 : ∀ (σ : cl_S) (v1 : Int32) (ad : Nat → Nat) (H : Heap) (locs : List Loc) (ls : Array Slot), cl_X1_put_J58 o0 σ v1 = some (z, σ') → cl_at ad σ a0 o0 → cl_V D dA (ad0, cl_n σ0) ad A s.heap σ s H locs → lv_has ls 3 [(0, .ref a0), (1, .int v1)] → W p l e ({ frames := 9, cells := 3, slots := 222, locals := 10248 }) s m ([.ref a0, .int p0, .int p1] : List Value).toArray below meth c H locs 0 0 (vx_MQ below (cx_Qi D dA ad0 A σ0 σ' z) (cx_X D dA ad0 A σ0 σ' z) ([.ref a0, .int p0, .int p1] : List Value).toArray s 3 222 A) (F0 m 58 ls []) := by
    intro σ v1 ad H locs ls hF e0 V hl
    unfold cl_X1_put_J58 at hF
    refine lv_aload_n hx hb dX1_put_58 rfl (lv_at hl 0 rfl) ?_
    refine lv_iload_n hx hb dX1_put_59 rfl (lv_at hl 1 rfl) ?_
    obtain ⟨hg, hF⟩ := dx_gd_some hF
    have k8 := of_decide_eq_true hg
    obtain ⟨r7, h7c, hF⟩ := dx_b1_some hF
    refine cl_ci (va_runV (As := [.int v1]) S (cm_X1_at l D dA _ A a0 o0 v1 σ _ e0 h7c) (cwV 1 hts (lw_V q475 q477 qs5 q78 q478) rfl rfl rfl ⟨rfl, cd_X1_at⟩ ⟨Nat.le_of_ble_eq_true rfl, Nat.le_of_ble_eq_true rfl⟩) (cl_preV V [.int v1] e0 k8 rfl (by decide)) rfl rfl hl.1 rfl (lv_room (Nat.le_of_ble_eq_true rfl)) dX1_put_60 ⟨Nat.le_of_ble_eq_true rfl, Nat.le_of_ble_eq_true rfl⟩) V (fun ad _ _ hag hle V => ?_)
    replace e0 := e0.mv hag hle
    refine W.widen (k := 3) (n := 222) (by first | omega | (dsimp only; omega)) (by first | omega | (dsimp only; omega)) ?_
    obtain ⟨hF1, hF2⟩ := dx_r2 hF
    subst hF1
    subst hF2
    exact cx_ri S V hr hlocks rfl dX1_put_63
  refine lv_aload_n hx hb dX1_put_0 rfl (lv_at hl 0 rfl) ?_
  obtain ⟨hg, hF⟩ := dx_gd_some hF
  have k1 := of_decide_eq_true hg
  by_cases hn2 : (cl_r σ0 o0 0) = 0
  · replace hF := (if_pos hn2).symm.trans hF
    refine cl_gn S V e0 k1 rfl (by decide) in_X1 0 (by decide) rfl q135 rfl dX1_put_1 hn2 ?_
    refine lv_instN hx hb dX1_put_4 ?_
    refine lv_if_eq (tgt := 24) hx hb dX1_put_7 (by decide) (fun hc => ?_) (fun hc => ?_)
    · refine lv_aload_n hx hb dX1_put_24 rfl (lv_at hl 0 rfl) ?_
      refine cl_gn S V e0 k1 rfl (by decide) in_X1 0 (by decide) rfl q135 rfl dX1_put_25 hn2 ?_
      refine lv_instN hx hb dX1_put_28 ?_
      refine lv_if_eq (tgt := 48) hx hb dX1_put_31 (by decide) (fun hc => ?_) (fun hc => ?_)
      · refine lv_aload_n hx hb dX1_put_48 rfl (lv_at hl 0 rfl) ?_
        refine cl_gn S V e0 k1 rfl (by decide) in_X1 0 (by decide) rfl q135 rfl dX1_put_49 hn2 ?_
        refine lv_castN hx hb dX1_put_52 ?_
        refine lv_iload_n hx hb dX1_put_55 rfl (lv_at hl 1 rfl) ?_
        refine lv_iload_n hx hb dX1_put_56 rfl (lv_at hl 2 rfl) ?_
        refine cx_stN S V hlt hlocks hl.1 (Nat.le_of_ble_eq_true rfl) ⟨Nat.le_of_ble_eq_true rfl, Nat.le_of_ble_eq_true rfl⟩ ⟨Nat.le_of_ble_eq_true rfl, Nat.le_of_ble_eq_true rfl⟩ dX1_put_57 (fun _ q9 ce V hce hcv hcl => ?_)
        obtain ⟨hF1, hF2⟩ := dx_r2 hF
        subst hF1
        subst hF2
        exact cx_out V htab hlocks (cx_qx_s (by decide)) hce hcv hcl (by first | omega | (dsimp only; omega)) (by first | omega | (dsimp only; omega))
      · exact absurd hc (by decide)
    · exact absurd hc (by decide)
  · replace hF := (if_neg hn2).symm.trans hF
    refine cl_gr S V e0 k1 rfl (by decide) in_X1 0 (by decide) rfl q135 rfl dX1_put_1 hn2 (fun bb2 ee2 => ?_)
    by_cases k5 : cl_k σ0 (cl_r σ0 o0 0) = 21
    · replace hF := (if_pos k5).symm.trans hF
      refine va_instE hx hb hown (hts _ q472) (cl_recvB V ee2 k5) dX1_put_4 ?_
      refine lv_if_eq (tgt := 24) hx hb dX1_put_7 (by decide) (fun hc => ?_) (fun hc => ?_)
      · exact absurd hc (by decide)
      · refine lv_aload_n hx hb dX1_put_10 rfl (lv_at hl 0 rfl) ?_
        refine cl_gr S V e0 k1 rfl (by decide) in_X1 0 (by decide) rfl q135 rfl dX1_put_11 hn2 (fun bb6 ee6 => ?_)
        refine va_castE hx hb hown (hts _ q472) (cl_recvB V ee6 k5) dX1_put_14 ?_
        refine lv_iload_n hx hb dX1_put_17 rfl (lv_at hl 1 rfl) ?_
        refine lv_iload_n hx hb dX1_put_18 rfl (lv_at hl 2 rfl) ?_
        refine lv_i2b hx hb dX1_put_19 rfl ?_
        obtain ⟨hlen, hF⟩ := dx_gd_some hF
        replace hlen := of_decide_eq_true hlen
        cases hib : dx_inb p0 (cl_l σ0 (cl_r σ0 o0 0)) with
        | true =>
          replace hF := dx_ib_t hib hF
          refine cl_stb S V ee6 k5 (dx_inb_in hib) dX1_put_20 (fun _ _ V => ?_)
          refine lv_goto (tgt := 58) hx hb dX1_put_21 (by decide) ?_
          refine W.widen (k := 0) (n := 0) (by first | omega | (dsimp only; omega)) (by first | omega | (dsimp only; omega)) ?_
          exact hJ58 (cl_wi σ0 (cl_r σ0 o0 0) p0.toNatClampNeg p1.toInt8.toInt32.toInt8.toInt32) p0 _ _ _ _ hF e0 V (lv_sub hl [0, 1] rfl)
        | false =>
          replace hF := dx_ib_f hib hF
          refine cx_stbZ S V hlt hlocks hl.1 (Nat.le_of_ble_eq_true rfl) ⟨Nat.le_of_ble_eq_true rfl, Nat.le_of_ble_eq_true rfl⟩ ⟨Nat.le_of_ble_eq_true rfl, Nat.le_of_ble_eq_true rfl⟩ ee6 k5 hlen hib dX1_put_20 (fun _ q9 ce V hce hcv hcl => ?_)
          obtain ⟨hF1, hF2⟩ := dx_r2 hF
          subst hF1
          subst hF2
          exact cx_out V htab hlocks (cx_qx_s (by decide)) hce hcv hcl (by first | omega | (dsimp only; omega)) (by first | omega | (dsimp only; omega))
    replace hF := (if_neg k5).symm.trans hF
    by_cases k9 : cl_k σ0 (cl_r σ0 o0 0) = 22
    · replace hF := (if_pos k9).symm.trans hF
      refine va_instNo (C := "[S") hx hb hown (hts _ q472) (V.1.2.2.2.2.2.2.1.2.2.1 _ nc_0) (cl_recvSh V ee2 k9) dX1_put_4 ?_
      refine lv_if_eq (tgt := 24) hx hb dX1_put_7 (by decide) (fun hc => ?_) (fun hc => ?_)
      · refine lv_aload_n hx hb dX1_put_24 rfl (lv_at hl 0 rfl) ?_
        refine cl_gr S V e0 k1 rfl (by decide) in_X1 0 (by decide) rfl q135 rfl dX1_put_25 hn2 (fun bb10 ee10 => ?_)
        refine va_instE hx hb hown (hts _ q473) (cl_recvSh V ee10 k9) dX1_put_28 ?_
        refine lv_if_eq (tgt := 48) hx hb dX1_put_31 (by decide) (fun hc => ?_) (fun hc => ?_)
        · exact absurd hc (by decide)
        · refine lv_aload_n hx hb dX1_put_34 rfl (lv_at hl 0 rfl) ?_
          refine cl_gr S V e0 k1 rfl (by decide) in_X1 0 (by decide) rfl q135 rfl dX1_put_35 hn2 (fun bb11 ee11 => ?_)
          refine va_castE hx hb hown (hts _ q473) (cl_recvSh V ee11 k9) dX1_put_38 ?_
          refine lv_iload_n hx hb dX1_put_41 rfl (lv_at hl 1 rfl) ?_
          refine lv_iload_n hx hb dX1_put_42 rfl (lv_at hl 2 rfl) ?_
          refine lv_i2s hx hb dX1_put_43 rfl ?_
          obtain ⟨hlen, hF⟩ := dx_gd_some hF
          replace hlen := of_decide_eq_true hlen
          cases hib : dx_inb p0 (cl_l σ0 (cl_r σ0 o0 0)) with
          | true =>
            replace hF := dx_ib_t hib hF
            refine cl_sts S V ee11 k9 (dx_inb_in hib) dX1_put_44 (fun _ _ V => ?_)
            refine lv_goto (tgt := 58) hx hb dX1_put_45 (by decide) ?_
            refine W.widen (k := 0) (n := 0) (by first | omega | (dsimp only; omega)) (by first | omega | (dsimp only; omega)) ?_
            exact hJ58 (cl_wi σ0 (cl_r σ0 o0 0) p0.toNatClampNeg p1.toInt16.toInt32.toInt16.toInt32) p0 _ _ _ _ hF e0 V (lv_sub hl [0, 1] rfl)
          | false =>
            replace hF := dx_ib_f hib hF
            refine cx_stsZ S V hlt hlocks hl.1 (Nat.le_of_ble_eq_true rfl) ⟨Nat.le_of_ble_eq_true rfl, Nat.le_of_ble_eq_true rfl⟩ ⟨Nat.le_of_ble_eq_true rfl, Nat.le_of_ble_eq_true rfl⟩ ee11 k9 hlen hib dX1_put_44 (fun _ q9 ce V hce hcv hcl => ?_)
            obtain ⟨hF1, hF2⟩ := dx_r2 hF
            subst hF1
            subst hF2
            exact cx_out V htab hlocks (cx_qx_s (by decide)) hce hcv hcl (by first | omega | (dsimp only; omega)) (by first | omega | (dsimp only; omega))
      · exact absurd hc (by decide)
    replace hF := (if_neg k9).symm.trans hF
    by_cases k12 : cl_k σ0 (cl_r σ0 o0 0) = 20
    · replace hF := (if_pos k12).symm.trans hF
      refine va_instNo (C := "[I") hx hb hown (hts _ q472) (V.1.2.2.2.2.2.2.1.2.2.1 _ nc_1) (cl_recvI V ee2 k12) dX1_put_4 ?_
      refine lv_if_eq (tgt := 24) hx hb dX1_put_7 (by decide) (fun hc => ?_) (fun hc => ?_)
      · refine lv_aload_n hx hb dX1_put_24 rfl (lv_at hl 0 rfl) ?_
        refine cl_gr S V e0 k1 rfl (by decide) in_X1 0 (by decide) rfl q135 rfl dX1_put_25 hn2 (fun bb13 ee13 => ?_)
        refine va_instNo (C := "[I") hx hb hown (hts _ q473) (V.1.2.2.2.2.2.2.1.2.2.1 _ nc_2) (cl_recvI V ee13 k12) dX1_put_28 ?_
        refine lv_if_eq (tgt := 48) hx hb dX1_put_31 (by decide) (fun hc => ?_) (fun hc => ?_)
        · refine lv_aload_n hx hb dX1_put_48 rfl (lv_at hl 0 rfl) ?_
          refine cl_gr S V e0 k1 rfl (by decide) in_X1 0 (by decide) rfl q135 rfl dX1_put_49 hn2 (fun bb14 ee14 => ?_)
          refine va_castE hx hb hown (hts _ q474) (cl_recvI V ee14 k12) dX1_put_52 ?_
          refine lv_iload_n hx hb dX1_put_55 rfl (lv_at hl 1 rfl) ?_
          refine lv_iload_n hx hb dX1_put_56 rfl (lv_at hl 2 rfl) ?_
          obtain ⟨hlen, hF⟩ := dx_gd_some hF
          replace hlen := of_decide_eq_true hlen
          cases hib : dx_inb p0 (cl_l σ0 (cl_r σ0 o0 0)) with
          | true =>
            replace hF := dx_ib_t hib hF
            refine cl_st S V ee14 k12 (dx_inb_in hib) dX1_put_57 (fun _ _ V => ?_)
            refine W.widen (k := 0) (n := 0) (by first | omega | (dsimp only; omega)) (by first | omega | (dsimp only; omega)) ?_
            exact hJ58 (cl_wi σ0 (cl_r σ0 o0 0) p0.toNatClampNeg p1) p0 _ _ _ _ hF e0 V (lv_sub hl [0, 1] rfl)
          | false =>
            replace hF := dx_ib_f hib hF
            refine cx_stZ S V hlt hlocks hl.1 (Nat.le_of_ble_eq_true rfl) ⟨Nat.le_of_ble_eq_true rfl, Nat.le_of_ble_eq_true rfl⟩ ⟨Nat.le_of_ble_eq_true rfl, Nat.le_of_ble_eq_true rfl⟩ ee14 k12 hlen hib dX1_put_57 (fun _ q9 ce V hce hcv hcl => ?_)
            obtain ⟨hF1, hF2⟩ := dx_r2 hF
            subst hF1
            subst hF2
            exact cx_out V htab hlocks (cx_qx_s (by decide)) hce hcv hcl (by first | omega | (dsimp only; omega)) (by first | omega | (dsimp only; omega))
        · exact absurd hc (by decide)
      · exact absurd hc (by decide)
    replace hF := (if_neg k12).symm.trans hF
    cases hF
theorem cd_X0_set : yX0_set.cls ≠ "java/lang/invoke/MethodHandle" ∧ yX0_set.cls ≠ "java/lang/invoke/VarHandle" ∧ (parseMethodDescriptor yX0_set.desc).map (fun d => d.parameters.length) = some 3 := by decide +kernel
set_option maxHeartbeats 4000000 in
set_option maxRecDepth 100000 in
theorem cm_X0_set (l : Launch) (hlt : l.stackTraces = false) (D : va_G) (dA : Nat → ClassId) (ad0 : Nat → Nat) (A : Nat → Prop) (a0 : Nat) (o0 : Nat) (p0 : Int32) (p1 : Int32) (p2 : Int32) (σ0 : cl_S) (r : Int32) (σ' : cl_S) (e0 : cl_at ad0 σ0 a0 o0) (hF : cl_X0_set o0 σ0 p0 p1 p2 = some (r, σ')) : cx_Hi l yX0_set cX0_set 5 .int [(10, 25, 26, 131), (10, 25, 34, 133)] ({ frames := 10, cells := 3, slots := 222, locals := 10270 }) D dA ad0 A [.ref a0, .int p0, .int p1, .int p2] σ0 r σ' := by
  refine cx_inH RX0 rfl (by decide) (Nat.le_of_ble_eq_true rfl) ?_
  intro p e s m below meth c ls S hr hlocks hini htab hv hl
  have hx := S.1
  have hb := S.2.1
  have hown := S.2.2.2.1
  have hts := S.2.2.2.2
  obtain ⟨hN, hK, hP, hD, hA, hZ⟩ := hv
  have V : cl_V D dA (ad0, cl_n σ0) ad0 A s.heap σ0 s s.heap [] := ⟨hN, hK, hP, hD, va_S.rf, hA, hZ, fun _ _ => rfl, Nat.le_refl _⟩
  obtain ⟨ad, V, e0⟩ : ∃ ad, cl_V D dA (ad0, cl_n σ0) ad A s.heap σ0 s s.heap [] ∧ cl_at ad σ0 a0 o0 := ⟨ad0, V, e0⟩
  replace hl : lv_has ls 5 [(0, .ref a0), (1, .int p0), (2, .int p1), (3, .int p2)] := hl
  unfold cl_X0_set at hF
  refine lv_iload_n hx hb dX0_set_0 rfl (lv_at hl 1 rfl) ?_
  obtain ⟨r1, h1c, hF⟩ := dx_b1_some hF
  refine dx_cPi S [.int p0] (cm_X0_isRow l p0 _ h1c) (va_cwS 1 hts (lw_S q398 q399 q77 q400) rfl rfl rfl cd_X0_isRow ⟨Nat.le_of_ble_eq_true rfl, Nat.le_of_ble_eq_true rfl⟩) rfl rfl hl.1 (Nat.le_of_ble_eq_true rfl) dX0_set_1 ⟨Nat.le_of_ble_eq_true rfl, Nat.le_of_ble_eq_true rfl⟩ ?_
  refine lv_if_ne (tgt := 10) hx hb dX0_set_4 (by decide) (fun hc => ?_) (fun hc => ?_)
  · replace hF := dx_ib_t (dx_bI_n hc) hF
    refine lv_aload_n hx hb dX0_set_10 rfl (lv_at hl 0 rfl) ?_
    refine lv_aload_n hx hb dX0_set_11 rfl (lv_at hl 0 rfl) ?_
    obtain ⟨hg, hF⟩ := dx_gd_some hF
    have k2 := of_decide_eq_true hg
    obtain ⟨hg, hF⟩ := dx_gd_some hF
    refine cl_gr S V e0 k2 rfl (by decide) in_X0 0 (by decide) rfl q268 rfl dX0_set_12 (of_decide_eq_true hg) (fun bb3 ee3 => ?_)
    refine lv_iload_n hx hb dX0_set_15 rfl (lv_at hl 1 rfl) ?_
    obtain ⟨hg, hF⟩ := dx_gd_some hF
    have k4 := of_decide_eq_true hg
    obtain ⟨hi5, hF⟩ := dx_gd_some hF
    obtain ⟨hg, hF⟩ := dx_gd_some hF
    refine cl_lr 3 24 S V ee3 k4 (by decide) rfl (dx_inb_in hi5) dX0_set_16 (of_decide_eq_true hg) (fun bb6 ee6 => ?_)
    refine lv_iload_n hx hb dX0_set_17 rfl (lv_at hl 2 rfl) ?_
    refine lv_iload_n hx hb dX0_set_18 rfl (lv_at hl 3 rfl) ?_
    obtain ⟨hg, hF⟩ := dx_gd_some hF
    have k8 := of_decide_eq_true hg
    obtain ⟨z7, σ7, h7c, hF⟩ := dx_bx_some hF
    refine cx_ci (vx_runVN (As := [.int p1, .int p2]) S (cm_X1_put l hlt D dA _ A bb6 (cl_r σ0 (cl_r σ0 o0 0) p0.toNatClampNeg) p1 p2 σ0 _ _ ee6 h7c) ⟨va_cnB 2 hts (lw_meth q471) rfl rfl rfl (V.1.1 _ cn_q468) (hts _ q78) cd_X1_put ⟨Nat.le_of_ble_eq_true rfl, Nat.le_of_ble_eq_true rfl⟩, hts _ q470, hts _ qs4⟩ (cl_preV V [.int p1, .int p2] ee6 k8 rfl (by decide)) rfl rfl hl.1 rfl (lv_room (Nat.le_of_ble_eq_true rfl)) dX0_set_19 ⟨Nat.le_of_ble_eq_true rfl, Nat.le_of_ble_eq_true rfl⟩) V (fun x7 ce q9 ad _ _ hz hag hle hq9 V hce hcv hcl => ?_) (fun r7 ad _ _ hz hag hle V => ?_)
    · subst hz
      replace hF := dx_xs_r hF
      replace e0 := e0.mv hag hle
      by_cases hc : x7 = 1
      · replace hF := (if_pos hc).symm.trans hF
        subst hc
        refine vx_catch (E := "java/lang/NullPointerException") (name := "java/lang/NullPointerException") hown [] ⟨10, 25, 26, 131⟩ [⟨10, 25, 34, 133⟩] (by rw [htab]; rfl) (fun z h => nomatch h) rfl (by decide) (hts _ q424) (va_Nw.use rfl (V.1.1 _ cn_q446)) hce hcv hcl ?_
        refine lv_astore (lv' := [(4, .ref q9), (0, .ref a0), (1, .int p0), (2, .int p1), (3, .int p2)]) hx hb dX0_set_26 hl (by decide) rfl (fun ls hl => ?_)
        refine lv_aload_n hx hb dX0_set_28 rfl (lv_at hl 1 rfl) ?_
        refine lv_iconst (v := 1) hx hb dX0_set_29 (by decide) ?_
        obtain ⟨hg, hF⟩ := dx_gd_some hF
        have k10 := of_decide_eq_true hg
        obtain ⟨r9, σ9, h9c, hF⟩ := dx_b2_some hF
        refine cl_ci (va_runV (As := [.int (1 : Int32)]) S (cm_X0_found l D dA _ A a0 o0 (1 : Int32) σ7 _ _ e0 h9c) (cwV 1 hts (lw_V q414 q416 qs3 q77 q417) rfl rfl rfl ⟨rfl, cd_X0_found⟩ ⟨Nat.le_of_ble_eq_true rfl, Nat.le_of_ble_eq_true rfl⟩) (cl_preV V [.int (1 : Int32)] e0 k10 rfl (by decide)) rfl rfl hl.1 rfl (lv_room (Nat.le_of_ble_eq_true rfl)) dX0_set_30 ⟨Nat.le_of_ble_eq_true rfl, Nat.le_of_ble_eq_true rfl⟩) V (fun ad _ _ hag hle V => ?_)
        replace e0 := e0.mv hag hle
        refine W.widen (k := 3) (n := 222) (by first | omega | (dsimp only; omega)) (by first | omega | (dsimp only; omega)) ?_
        obtain ⟨hF1, hF2⟩ := dx_r2 hF
        subst hF1
        subst hF2
        exact vx_ret (cl_ri S V hr hlocks rfl dX0_set_33)
      replace hF := (if_neg hc).symm.trans hF
      clear hc
      by_cases hc : x7 = 2
      · replace hF := (if_pos hc).symm.trans hF
        subst hc
        refine vx_catch (E := "java/lang/ArrayIndexOutOfBoundsException") (name := "java/lang/ArrayIndexOutOfBoundsException") hown [⟨10, 25, 26, 131⟩] ⟨10, 25, 34, 133⟩ [] (by rw [htab]; rfl) (List.forall_mem_cons.mpr ⟨Or.inr ⟨by decide, _, hts _ q424, V.1.2.2.2.2.2.2.1.2.2.1 _ nc_3⟩, fun z h => nomatch h⟩) rfl (by decide) (hts _ q449) (va_Nw.use rfl (V.1.1 _ cn_q464)) hce hcv hcl ?_
        refine lv_astore (lv' := [(4, .ref q9), (0, .ref a0), (1, .int p0), (2, .int p1), (3, .int p2)]) hx hb dX0_set_34 hl (by decide) rfl (fun ls hl => ?_)
        refine lv_aload_n hx hb dX0_set_36 rfl (lv_at hl 1 rfl) ?_
        refine lv_iconst (v := 2) hx hb dX0_set_37 (by decide) ?_
        obtain ⟨hg, hF⟩ := dx_gd_some hF
        have k12 := of_decide_eq_true hg
        obtain ⟨r11, σ11, h11c, hF⟩ := dx_b2_some hF
        refine cl_ci (va_runV (As := [.int (2 : Int32)]) S (cm_X0_found l D dA _ A a0 o0 (2 : Int32) σ7 _ _ e0 h11c) (cwV 1 hts (lw_V q414 q416 qs3 q77 q417) rfl rfl rfl ⟨rfl, cd_X0_found⟩ ⟨Nat.le_of_ble_eq_true rfl, Nat.le_of_ble_eq_true rfl⟩) (cl_preV V [.int (2 : Int32)] e0 k12 rfl (by decide)) rfl rfl hl.1 rfl (lv_room (Nat.le_of_ble_eq_true rfl)) dX0_set_38 ⟨Nat.le_of_ble_eq_true rfl, Nat.le_of_ble_eq_true rfl⟩) V (fun ad _ _ hag hle V => ?_)
        replace e0 := e0.mv hag hle
        refine W.widen (k := 3) (n := 222) (by first | omega | (dsimp only; omega)) (by first | omega | (dsimp only; omega)) ?_
        obtain ⟨hF1, hF2⟩ := dx_r2 hF
        subst hF1
        subst hF2
        exact vx_ret (cl_ri S V hr hlocks rfl dX0_set_41)
      replace hF := (if_neg hc).symm.trans hF
      clear hc
      cases hF
    · subst hz
      replace hF := dx_xs_l hF
      replace e0 := e0.mv hag hle
      obtain ⟨hg, hF⟩ := dx_gd_some hF
      have k14 := of_decide_eq_true hg
      obtain ⟨r13, σ13, h13c, hF⟩ := dx_b2_some hF
      refine cl_ci (va_runV (As := [.int r7]) S (cm_X0_well l D dA _ A a0 o0 r7 σ7 _ _ e0 h13c) (cwV 1 hts (lw_V q410 q412 qs2 q77 q413) rfl rfl rfl ⟨rfl, cd_X0_well⟩ ⟨Nat.le_of_ble_eq_true rfl, Nat.le_of_ble_eq_true rfl⟩) (cl_preV V [.int r7] e0 k14 rfl (by decide)) rfl rfl hl.1 rfl (lv_room (Nat.le_of_ble_eq_true rfl)) dX0_set_22 ⟨Nat.le_of_ble_eq_true rfl, Nat.le_of_ble_eq_true rfl⟩) V (fun ad _ _ hag hle V => ?_)
      replace e0 := e0.mv hag hle
      refine W.widen (k := 3) (n := 222) (by first | omega | (dsimp only; omega)) (by first | omega | (dsimp only; omega)) ?_
      obtain ⟨hF1, hF2⟩ := dx_r2 hF
      subst hF1
      subst hF2
      exact vx_ret (cl_ri S V hr hlocks rfl dX0_set_25)
  · replace hF := dx_ib_f (dx_bI_0 hc) hF
    refine lv_ldc hx hb hown (hts _ q406) dX0_set_7 ?_
    refine W.widen (k := 3) (n := 222) (by first | omega | (dsimp only; omega)) (by first | omega | (dsimp only; omega)) ?_
    obtain ⟨hF1, hF2⟩ := dx_r2 hF
    subst hF1
    subst hF2
    exact vx_ret (cl_ri S V hr hlocks rfl dX0_set_9)
theorem cd_X1_many : yX1_many.cls ≠ "java/lang/invoke/MethodHandle" ∧ yX1_many.cls ≠ "java/lang/invoke/VarHandle" ∧ (parseMethodDescriptor yX1_many.desc).map (fun d => d.parameters.length) = some 0 := by decide +kernel
set_option maxHeartbeats 4000000 in
set_option maxRecDepth 100000 in
theorem cm_X1_many (l : Launch) (hlt : l.stackTraces = false) (D : va_G) (dA : Nat → ClassId) (ad0 : Nat → Nat) (A : Nat → Prop) (a0 : Nat) (o0 : Nat)  (σ0 : cl_S) (z : Int32 ⊕ Nat) (σ' : cl_S) (e0 : cl_at ad0 σ0 a0 o0) (hF : cl_X1_many o0 σ0 = some (z, σ')) : cx_Ci l yX1_many cX1_many 1 .int ({ frames := 9, cells := 1, slots := 8, locals := 10248 }) D dA ad0 A [.ref a0] σ0 z σ' := by
  refine cx_in RX1 rfl (by decide) (Nat.le_of_ble_eq_true rfl) ?_
  intro p e s m below meth c ls S hr hlocks hini htab hv hl
  have hx := S.1
  have hb := S.2.1
  have hown := S.2.2.2.1
  have hts := S.2.2.2.2
  obtain ⟨hN, hK, hP, hD, hA, hZ⟩ := hv
  have V : cl_V D dA (ad0, cl_n σ0) ad0 A s.heap σ0 s s.heap [] := ⟨hN, hK, hP, hD, va_S.rf, hA, hZ, fun _ _ => rfl, Nat.le_refl _⟩
  obtain ⟨ad, V, e0⟩ : ∃ ad, cl_V D dA (ad0, cl_n σ0) ad A s.heap σ0 s s.heap [] ∧ cl_at ad σ0 a0 o0 := ⟨ad0, V, e0⟩
  replace hl : lv_has ls 1 [(0, .ref a0)] := hl
  unfold cl_X1_many at hF
  refine lv_aload_n hx hb dX1_many_0 rfl (lv_at hl 0 rfl) ?_
  obtain ⟨hg, hF⟩ := dx_gd_some hF
  have k1 := of_decide_eq_true hg
  by_cases hn2 : (cl_r σ0 o0 0) = 0
  · replace hF := (if_pos hn2).symm.trans hF
    refine cl_gn S V e0 k1 rfl (by decide) in_X1 0 (by decide) rfl q135 rfl dX1_many_1 hn2 ?_
    refine lv_instN hx hb dX1_many_4 ?_
    refine lv_if_eq (tgt := 19) hx hb dX1_many_7 (by decide) (fun hc => ?_) (fun hc => ?_)
    · refine lv_aload_n hx hb dX1_many_19 rfl (lv_at hl 0 rfl) ?_
      refine cl_gn S V e0 k1 rfl (by decide) in_X1 0 (by decide) rfl q135 rfl dX1_many_20 hn2 ?_
      refine lv_instN hx hb dX1_many_23 ?_
      refine lv_if_eq (tgt := 38) hx hb dX1_many_26 (by decide) (fun hc => ?_) (fun hc => ?_)
      · refine lv_aload_n hx hb dX1_many_38 rfl (lv_at hl 0 rfl) ?_
        refine cl_gn S V e0 k1 rfl (by decide) in_X1 0 (by decide) rfl q135 rfl dX1_many_39 hn2 ?_
        refine lv_castN hx hb dX1_many_42 ?_
        refine cx_lenN S V hlt hlocks hl.1 (Nat.le_of_ble_eq_true rfl) ⟨Nat.le_of_ble_eq_true rfl, Nat.le_of_ble_eq_true rfl⟩ ⟨Nat.le_of_ble_eq_true rfl, Nat.le_of_ble_eq_true rfl⟩ dX1_many_45 (fun _ q9 ce V hce hcv hcl => ?_)
        obtain ⟨hF1, hF2⟩ := dx_r2 hF
        subst hF1
        subst hF2
        exact cx_out V htab hlocks (cx_qx_s (by decide)) hce hcv hcl (by first | omega | (dsimp only; omega)) (by first | omega | (dsimp only; omega))
      · exact absurd hc (by decide)
    · exact absurd hc (by decide)
  · replace hF := (if_neg hn2).symm.trans hF
    refine cl_gr S V e0 k1 rfl (by decide) in_X1 0 (by decide) rfl q135 rfl dX1_many_1 hn2 (fun bb2 ee2 => ?_)
    by_cases k5 : cl_k σ0 (cl_r σ0 o0 0) = 21
    · replace hF := (if_pos k5).symm.trans hF
      refine va_instE hx hb hown (hts _ q472) (cl_recvB V ee2 k5) dX1_many_4 ?_
      refine lv_if_eq (tgt := 19) hx hb dX1_many_7 (by decide) (fun hc => ?_) (fun hc => ?_)
      · exact absurd hc (by decide)
      · refine lv_aload_n hx hb dX1_many_10 rfl (lv_at hl 0 rfl) ?_
        refine cl_gr S V e0 k1 rfl (by decide) in_X1 0 (by decide) rfl q135 rfl dX1_many_11 hn2 (fun bb6 ee6 => ?_)
        refine va_castE hx hb hown (hts _ q472) (cl_recvB V ee6 k5) dX1_many_14 ?_
        refine cl_len 1 21 S V ee6 k5 (by decide) (by decide) rfl dX1_many_17 ?_
        refine W.widen (k := 1) (n := 8) (by first | omega | (dsimp only; omega)) (by first | omega | (dsimp only; omega)) ?_
        obtain ⟨hF1, hF2⟩ := dx_r2 hF
        subst hF1
        subst hF2
        exact cx_ri S V hr hlocks rfl dX1_many_18
    replace hF := (if_neg k5).symm.trans hF
    by_cases k7 : cl_k σ0 (cl_r σ0 o0 0) = 22
    · replace hF := (if_pos k7).symm.trans hF
      refine va_instNo (C := "[S") hx hb hown (hts _ q472) (V.1.2.2.2.2.2.2.1.2.2.1 _ nc_0) (cl_recvSh V ee2 k7) dX1_many_4 ?_
      refine lv_if_eq (tgt := 19) hx hb dX1_many_7 (by decide) (fun hc => ?_) (fun hc => ?_)
      · refine lv_aload_n hx hb dX1_many_19 rfl (lv_at hl 0 rfl) ?_
        refine cl_gr S V e0 k1 rfl (by decide) in_X1 0 (by decide) rfl q135 rfl dX1_many_20 hn2 (fun bb8 ee8 => ?_)
        refine va_instE hx hb hown (hts _ q473) (cl_recvSh V ee8 k7) dX1_many_23 ?_
        refine lv_if_eq (tgt := 38) hx hb dX1_many_26 (by decide) (fun hc => ?_) (fun hc => ?_)
        · exact absurd hc (by decide)
        · refine lv_aload_n hx hb dX1_many_29 rfl (lv_at hl 0 rfl) ?_
          refine cl_gr S V e0 k1 rfl (by decide) in_X1 0 (by decide) rfl q135 rfl dX1_many_30 hn2 (fun bb9 ee9 => ?_)
          refine va_castE hx hb hown (hts _ q473) (cl_recvSh V ee9 k7) dX1_many_33 ?_
          refine cl_len 2 22 S V ee9 k7 (by decide) (by decide) rfl dX1_many_36 ?_
          refine W.widen (k := 1) (n := 8) (by first | omega | (dsimp only; omega)) (by first | omega | (dsimp only; omega)) ?_
          obtain ⟨hF1, hF2⟩ := dx_r2 hF
          subst hF1
          subst hF2
          exact cx_ri S V hr hlocks rfl dX1_many_37
      · exact absurd hc (by decide)
    replace hF := (if_neg k7).symm.trans hF
    by_cases k10 : cl_k σ0 (cl_r σ0 o0 0) = 20
    · replace hF := (if_pos k10).symm.trans hF
      refine va_instNo (C := "[I") hx hb hown (hts _ q472) (V.1.2.2.2.2.2.2.1.2.2.1 _ nc_1) (cl_recvI V ee2 k10) dX1_many_4 ?_
      refine lv_if_eq (tgt := 19) hx hb dX1_many_7 (by decide) (fun hc => ?_) (fun hc => ?_)
      · refine lv_aload_n hx hb dX1_many_19 rfl (lv_at hl 0 rfl) ?_
        refine cl_gr S V e0 k1 rfl (by decide) in_X1 0 (by decide) rfl q135 rfl dX1_many_20 hn2 (fun bb11 ee11 => ?_)
        refine va_instNo (C := "[I") hx hb hown (hts _ q473) (V.1.2.2.2.2.2.2.1.2.2.1 _ nc_2) (cl_recvI V ee11 k10) dX1_many_23 ?_
        refine lv_if_eq (tgt := 38) hx hb dX1_many_26 (by decide) (fun hc => ?_) (fun hc => ?_)
        · refine lv_aload_n hx hb dX1_many_38 rfl (lv_at hl 0 rfl) ?_
          refine cl_gr S V e0 k1 rfl (by decide) in_X1 0 (by decide) rfl q135 rfl dX1_many_39 hn2 (fun bb12 ee12 => ?_)
          refine va_castE hx hb hown (hts _ q474) (cl_recvI V ee12 k10) dX1_many_42 ?_
          refine cl_len 0 20 S V ee12 k10 (by decide) (by decide) rfl dX1_many_45 ?_
          refine W.widen (k := 1) (n := 8) (by first | omega | (dsimp only; omega)) (by first | omega | (dsimp only; omega)) ?_
          obtain ⟨hF1, hF2⟩ := dx_r2 hF
          subst hF1
          subst hF2
          exact cx_ri S V hr hlocks rfl dX1_many_46
        · exact absurd hc (by decide)
      · exact absurd hc (by decide)
    replace hF := (if_neg k10).symm.trans hF
    cases hF
theorem cd_X0_drop : yX0_drop.cls ≠ "java/lang/invoke/MethodHandle" ∧ yX0_drop.cls ≠ "java/lang/invoke/VarHandle" ∧ (parseMethodDescriptor yX0_drop.desc).map (fun d => d.parameters.length) = some 1 := by decide +kernel
set_option maxHeartbeats 4000000 in
set_option maxRecDepth 100000 in
theorem cm_X0_drop (l : Launch) (hlt : l.stackTraces = false) (D : va_G) (dA : Nat → ClassId) (ad0 : Nat → Nat) (A : Nat → Prop) (a0 : Nat) (o0 : Nat) (p0 : Int32) (σ0 : cl_S) (r : Int32) (σ' : cl_S) (e0 : cl_at ad0 σ0 a0 o0) (hF : cl_X0_drop o0 σ0 p0 = some (r, σ')) : cx_Hi l yX0_drop cX0_drop 5 .int [(10, 24, 36, 131), (10, 24, 55, 0), (36, 43, 55, 0), (55, 57, 55, 0)] ({ frames := 10, cells := 1, slots := 8, locals := 10268 }) D dA ad0 A [.ref a0, .int p0] σ0 r σ' := by
  refine cx_inH RX0 rfl (by decide) (Nat.le_of_ble_eq_true rfl) ?_
  intro p e s m below meth c ls S hr hlocks hini htab hv hl
  have hx := S.1
  have hb := S.2.1
  have hown := S.2.2.2.1
  have hts := S.2.2.2.2
  obtain ⟨hN, hK, hP, hD, hA, hZ⟩ := hv
  have V : cl_V D dA (ad0, cl_n σ0) ad0 A s.heap σ0 s s.heap [] := ⟨hN, hK, hP, hD, va_S.rf, hA, hZ, fun _ _ => rfl, Nat.le_refl _⟩
  obtain ⟨ad, V, e0⟩ : ∃ ad, cl_V D dA (ad0, cl_n σ0) ad A s.heap σ0 s s.heap [] ∧ cl_at ad σ0 a0 o0 := ⟨ad0, V, e0⟩
  replace hl : lv_has ls 5 [(0, .ref a0), (1, .int p0)] := hl
  unfold cl_X0_drop at hF
  refine lv_iload_n hx hb dX0_drop_0 rfl (lv_at hl 1 rfl) ?_
  obtain ⟨r1, h1c, hF⟩ := dx_b1_some hF
  refine dx_cPi S [.int p0] (cm_X0_isRow l p0 _ h1c) (va_cwS 1 hts (lw_S q398 q399 q77 q400) rfl rfl rfl cd_X0_isRow ⟨Nat.le_of_ble_eq_true rfl, Nat.le_of_ble_eq_true rfl⟩) rfl rfl hl.1 (Nat.le_of_ble_eq_true rfl) dX0_drop_1 ⟨Nat.le_of_ble_eq_true rfl, Nat.le_of_ble_eq_true rfl⟩ ?_
  refine lv_if_ne (tgt := 10) hx hb dX0_drop_4 (by decide) (fun hc => ?_) (fun hc => ?_)
  · replace hF := dx_ib_t (dx_bI_n hc) hF
    refine lv_aload_n hx hb dX0_drop_10 rfl (lv_at hl 0 rfl) ?_
    refine lv_aload_n hx hb dX0_drop_11 rfl (lv_at hl 0 rfl) ?_
    obtain ⟨hg, hF⟩ := dx_gd_some hF
    have k2 := of_decide_eq_true hg
    obtain ⟨hg, hF⟩ := dx_gd_some hF
    refine cl_gr S V e0 k2 rfl (by decide) in_X0 0 (by decide) rfl q268 rfl dX0_drop_12 (of_decide_eq_true hg) (fun bb3 ee3 => ?_)
    refine lv_iload_n hx hb dX0_drop_15 rfl (lv_at hl 1 rfl) ?_
    obtain ⟨hg, hF⟩ := dx_gd_some hF
    have k4 := of_decide_eq_true hg
    obtain ⟨hi5, hF⟩ := dx_gd_some hF
    obtain ⟨hg, hF⟩ := dx_gd_some hF
    refine cl_lr 3 24 S V ee3 k4 (by decide) rfl (dx_inb_in hi5) dX0_drop_16 (of_decide_eq_true hg) (fun bb6 ee6 => ?_)
    obtain ⟨hg, hF⟩ := dx_gd_some hF
    have k8 := of_decide_eq_true hg
    obtain ⟨z7, σ7, h7c, hF⟩ := dx_bx_some hF
    refine cx_ci (vx_runVN (As := []) S (cm_X1_many l hlt D dA _ A bb6 (cl_r σ0 (cl_r σ0 o0 0) p0.toNatClampNeg)  σ0 _ _ ee6 h7c) ⟨va_cnB 0 hts (lw_meth q508) rfl rfl rfl (V.1.1 _ cn_q505) (hts _ q78) cd_X1_many ⟨Nat.le_of_ble_eq_true rfl, Nat.le_of_ble_eq_true rfl⟩, hts _ q507, hts _ qs6⟩ (cl_preV V [] ee6 k8 rfl (by decide)) rfl rfl hl.1 rfl (lv_room (Nat.le_of_ble_eq_true rfl)) dX0_drop_17 ⟨Nat.le_of_ble_eq_true rfl, Nat.le_of_ble_eq_true rfl⟩) V (fun x7 ce q9 ad _ _ hz hag hle hq9 V hce hcv hcl => ?_) (fun r7 ad _ _ hz hag hle V => ?_)
    · subst hz
      replace hF := dx_xs_r hF
      replace e0 := e0.mv hag hle
      by_cases hc : x7 = 1
      · replace hF := (if_pos hc).symm.trans hF
        subst hc
        refine vx_catch (E := "java/lang/NullPointerException") (name := "java/lang/NullPointerException") hown [] ⟨10, 24, 36, 131⟩ [⟨10, 24, 55, 0⟩, ⟨36, 43, 55, 0⟩, ⟨55, 57, 55, 0⟩] (by rw [htab]; rfl) (fun z h => nomatch h) rfl (by decide) (hts _ q424) (va_Nw.use rfl (V.1.1 _ cn_q446)) hce hcv hcl ?_
        refine lv_astore_n (lv' := [(2, .ref q9), (0, .ref a0), (1, .int p0)]) hx hb dX0_drop_36 rfl hl (by decide) rfl (fun ls hl => ?_)
        refine lv_aload_n hx hb dX0_drop_37 rfl (lv_at hl 1 rfl) ?_
        refine lv_iconst (v := 1) hx hb dX0_drop_38 (by decide) ?_
        obtain ⟨hg, hF⟩ := dx_gd_some hF
        have k10 := of_decide_eq_true hg
        obtain ⟨r9, σ9, h9c, hF⟩ := dx_b2_some hF
        refine cl_ci (va_runV (As := [.int (1 : Int32)]) S (cm_X0_found l D dA _ A a0 o0 (1 : Int32) σ7 _ _ e0 h9c) (cwV 1 hts (lw_V q414 q416 qs3 q77 q417) rfl rfl rfl ⟨rfl, cd_X0_found⟩ ⟨Nat.le_of_ble_eq_true rfl, Nat.le_of_ble_eq_true rfl⟩) (cl_preV V [.int (1 : Int32)] e0 k10 rfl (by decide)) rfl rfl hl.1 rfl (lv_room (Nat.le_of_ble_eq_true rfl)) dX0_drop_39 ⟨Nat.le_of_ble_eq_true rfl, Nat.le_of_ble_eq_true rfl⟩) V (fun ad _ _ hag hle V => ?_)
        replace e0 := e0.mv hag hle
        refine lv_istore_n (lv' := [(3, .int r9), (2, .ref q9), (0, .ref a0), (1, .int p0)]) hx hb dX0_drop_42 rfl hl (by decide) rfl (fun ls hl => ?_)
        refine lv_aload_n hx hb dX0_drop_43 rfl (lv_at hl 2 rfl) ?_
        obtain ⟨hg, hF⟩ := dx_gd_some hF
        have k11 := of_decide_eq_true hg
        obtain ⟨hg, hF⟩ := dx_gd_some hF
        refine cl_gr S V e0 k11 rfl (by decide) in_X0 0 (by decide) rfl q268 rfl dX0_drop_44 (of_decide_eq_true hg) (fun bb12 ee12 => ?_)
        refine lv_iload_n hx hb dX0_drop_47 rfl (lv_at hl 3 rfl) ?_
        obtain ⟨hg, hF⟩ := dx_gd_some hF
        have k13 := of_decide_eq_true hg
        obtain ⟨hi14, hF⟩ := dx_gd_some hF
        obtain ⟨hg, hF⟩ := dx_gd_some hF
        refine cl_lr 3 24 S V ee12 k13 (by decide) rfl (dx_inb_in hi14) dX0_drop_48 (of_decide_eq_true hg) (fun bb15 ee15 => ?_)
        refine lv_null hx hb dX0_drop_49 ?_
        obtain ⟨hg, hF⟩ := dx_gd_some hF
        have k16 := of_decide_eq_true hg
        refine cl_pnN S V ee15 k16 rfl (by decide) in_X1 tyX1 tyX1_ok nmX1 0 (by decide) rfl cn_q136 rfl rfl rfl rfl dX0_drop_50 (fun _ _ V => ?_)
        obtain ⟨σ17, eσ17⟩ : ∃ x, x = (cl_wr σ9 (cl_r σ9 (cl_r σ9 o0 0) p0.toNatClampNeg) 0 0) := ⟨_, rfl⟩
        rw [← eσ17] at V
        replace hF := dx_let_e eσ17 hF
        replace e0 : cl_at ad σ17 a0 o0 := by rw [eσ17]; exact e0
        replace k11 : cl_k σ17 o0 = 0 := by rw [eσ17]; exact k11
        replace k13 : cl_k σ17 (cl_r σ9 o0 0) = 24 := by rw [eσ17]; exact k13
        replace k16 : cl_k σ17 (cl_r σ9 (cl_r σ9 o0 0) p0.toNatClampNeg) = 1 := by rw [eσ17]; exact k16
        refine lv_iload_n hx hb dX0_drop_53 rfl (lv_at hl 0 rfl) ?_
        refine W.widen (k := 1) (n := 8) (by first | omega | (dsimp only; omega)) (by first | omega | (dsimp only; omega)) ?_
        obtain ⟨hF1, hF2⟩ := dx_r2 hF
        subst hF1
        subst hF2
        exact vx_ret (cl_ri S V hr hlocks rfl dX0_drop_54)
      replace hF := (if_neg hc).symm.trans hF
      clear hc
      cases hF
    · subst hz
      replace hF := dx_xs_l hF
      replace e0 := e0.mv hag hle
      obtain ⟨hg, hF⟩ := dx_gd_some hF
      have k19 := of_decide_eq_true hg
      obtain ⟨r18, σ18, h18c, hF⟩ := dx_b2_some hF
      refine cl_ci (va_runV (As := [.int r7]) S (cm_X0_well l D dA _ A a0 o0 r7 σ7 _ _ e0 h18c) (cwV 1 hts (lw_V q410 q412 qs2 q77 q413) rfl rfl rfl ⟨rfl, cd_X0_well⟩ ⟨Nat.le_of_ble_eq_true rfl, Nat.le_of_ble_eq_true rfl⟩) (cl_preV V [.int r7] e0 k19 rfl (by decide)) rfl rfl hl.1 rfl (lv_room (Nat.le_of_ble_eq_true rfl)) dX0_drop_20 ⟨Nat.le_of_ble_eq_true rfl, Nat.le_of_ble_eq_true rfl⟩) V (fun ad _ _ hag hle V => ?_)
      replace e0 := e0.mv hag hle
      refine lv_istore_n (lv' := [(2, .int r18), (0, .ref a0), (1, .int p0)]) hx hb dX0_drop_23 rfl hl (by decide) rfl (fun ls hl => ?_)
      refine lv_aload_n hx hb dX0_drop_24 rfl (lv_at hl 1 rfl) ?_
      obtain ⟨hg, hF⟩ := dx_gd_some hF
      have k20 := of_decide_eq_true hg
      obtain ⟨hg, hF⟩ := dx_gd_some hF
      refine cl_gr S V e0 k20 rfl (by decide) in_X0 0 (by decide) rfl q268 rfl dX0_drop_25 (of_decide_eq_true hg) (fun bb21 ee21 => ?_)
      refine lv_iload_n hx hb dX0_drop_28 rfl (lv_at hl 2 rfl) ?_
      obtain ⟨hg, hF⟩ := dx_gd_some hF
      have k22 := of_decide_eq_true hg
      obtain ⟨hi23, hF⟩ := dx_gd_some hF
      obtain ⟨hg, hF⟩ := dx_gd_some hF
      refine cl_lr 3 24 S V ee21 k22 (by decide) rfl (dx_inb_in hi23) dX0_drop_29 (of_decide_eq_true hg) (fun bb24 ee24 => ?_)
      refine lv_null hx hb dX0_drop_30 ?_
      obtain ⟨hg, hF⟩ := dx_gd_some hF
      have k25 := of_decide_eq_true hg
      refine cl_pnN S V ee24 k25 rfl (by decide) in_X1 tyX1 tyX1_ok nmX1 0 (by decide) rfl cn_q136 rfl rfl rfl rfl dX0_drop_31 (fun _ _ V => ?_)
      obtain ⟨σ26, eσ26⟩ : ∃ x, x = (cl_wr σ18 (cl_r σ18 (cl_r σ18 o0 0) p0.toNatClampNeg) 0 0) := ⟨_, rfl⟩
      rw [← eσ26] at V
      replace hF := dx_let_e eσ26 hF
      replace e0 : cl_at ad σ26 a0 o0 := by rw [eσ26]; exact e0
      replace k20 : cl_k σ26 o0 = 0 := by rw [eσ26]; exact k20
      replace k22 : cl_k σ26 (cl_r σ18 o0 0) = 24 := by rw [eσ26]; exact k22
      replace k25 : cl_k σ26 (cl_r σ18 (cl_r σ18 o0 0) p0.toNatClampNeg) = 1 := by rw [eσ26]; exact k25
      refine lv_iload_n hx hb dX0_drop_34 rfl (lv_at hl 0 rfl) ?_
      refine W.widen (k := 1) (n := 8) (by first | omega | (dsimp only; omega)) (by first | omega | (dsimp only; omega)) ?_
      obtain ⟨hF1, hF2⟩ := dx_r2 hF
      subst hF1
      subst hF2
      exact vx_ret (cl_ri S V hr hlocks rfl dX0_drop_35)
  · replace hF := dx_ib_f (dx_bI_0 hc) hF
    refine lv_ldc hx hb hown (hts _ q406) dX0_drop_7 ?_
    refine W.widen (k := 1) (n := 8) (by first | omega | (dsimp only; omega)) (by first | omega | (dsimp only; omega)) ?_
    obtain ⟨hF1, hF2⟩ := dx_r2 hF
    subst hF1
    subst hF2
    exact vx_ret (cl_ri S V hr hlocks rfl dX0_drop_9)
theorem cd_X0_feed : yX0_feed.cls ≠ "java/lang/invoke/MethodHandle" ∧ yX0_feed.cls ≠ "java/lang/invoke/VarHandle" ∧ (parseMethodDescriptor yX0_feed.desc).map (fun d => d.parameters.length) = some 1 := by decide +kernel
set_option maxHeartbeats 4000000 in
set_option maxRecDepth 100000 in
theorem cm_X0_feed (l : Launch) (D : va_G) (dA : Nat → ClassId) (ad0 : Nat → Nat) (A : Nat → Prop) (a0 : Nat) (o0 : Nat) (p0 : Int32) (σ0 : cl_S) (r : Int32) (σ' : cl_S) (e0 : cl_at ad0 σ0 a0 o0) (hF : cl_X0_feed o0 σ0 p0 = some (r, σ')) : cl_Ci l yX0_feed cX0_feed 2 .int ({ frames := 1, cells := 0, slots := 0, locals := 25 }) D dA ad0 A [.ref a0, .int p0] σ0 r σ' := by
  refine cl_in RX0 rfl (by decide) (Nat.le_of_ble_eq_true rfl) ?_
  intro p e s m below meth c ls S hr hlocks hini hv hl
  have hx := S.1
  have hb := S.2.1
  have hown := S.2.2.2.1
  have hts := S.2.2.2.2
  obtain ⟨hN, hK, hP, hD, hA, hZ⟩ := hv
  have V : cl_V D dA (ad0, cl_n σ0) ad0 A s.heap σ0 s s.heap [] := ⟨hN, hK, hP, hD, va_S.rf, hA, hZ, fun _ _ => rfl, Nat.le_refl _⟩
  obtain ⟨ad, V, e0⟩ : ∃ ad, cl_V D dA (ad0, cl_n σ0) ad A s.heap σ0 s s.heap [] ∧ cl_at ad σ0 a0 o0 := ⟨ad0, V, e0⟩
  replace hl : lv_has ls 2 [(0, .ref a0), (1, .int p0)] := hl
  unfold cl_X0_feed at hF
  refine lv_iload_n hx hb dX0_feed_0 rfl (lv_at hl 1 rfl) ?_
  refine lv_i2l hx hb dX0_feed_1 rfl ?_
  refine lv_lconst (v := 0) hx hb dX0_feed_2 (by decide) ?_
  refine lv_ldc2 hx hb hown (hts _ q513) dX0_feed_3 ?_
  obtain ⟨r1, h1c, hF⟩ := dx_b1_some hF
  refine dx_cPi S [.long p0.toInt64, .long (0 : Int64), .long (255 : Int64)] (cm_X0_isIn l p0.toInt64 (0 : Int64) (255 : Int64) _ h1c) (va_cwS 3 hts (lw_S q402 q403 q77 q404) rfl rfl rfl cd_X0_isIn ⟨Nat.le_of_ble_eq_true rfl, Nat.le_of_ble_eq_true rfl⟩) rfl rfl hl.1 (Nat.le_of_ble_eq_true rfl) dX0_feed_6 ⟨Nat.le_of_ble_eq_true rfl, Nat.le_of_ble_eq_true rfl⟩ ?_
  refine lv_if_ne (tgt := 15) hx hb dX0_feed_9 (by decide) (fun hc => ?_) (fun hc => ?_)
  · replace hF := dx_ib_t (dx_bI_n hc) hF
    refine lv_aload_n hx hb dX0_feed_15 rfl (lv_at hl 0 rfl) ?_
    obtain ⟨hg, hF⟩ := dx_gd_some hF
    have k2 := of_decide_eq_true hg
    refine cl_gi S V e0 k2 rfl (by decide) in_X0 2 (by decide) rfl q270 rfl dX0_feed_16 ?_
    refine lv_sipush (v := 130) hx hb dX0_feed_19 (by decide) ?_
    refine lv_icmp_ne (tgt := 28) hx hb dX0_feed_22 (by decide) (fun hc => ?_) (fun hc => ?_)
    · replace hF := (if_neg hc).symm.trans hF
      refine lv_aload_n hx hb dX0_feed_28 rfl (lv_at hl 0 rfl) ?_
      obtain ⟨hg, hF⟩ := dx_gd_some hF
      refine cl_gr S V e0 k2 rfl (by decide) in_X0 1 (by decide) rfl q269 rfl dX0_feed_29 (of_decide_eq_true hg) (fun bb3 ee3 => ?_)
      refine lv_aload_n hx hb dX0_feed_32 rfl (lv_at hl 0 rfl) ?_
      refine lv_dup hx hb dX0_feed_33 rfl ?_
      refine cl_gi S V e0 k2 rfl (by decide) in_X0 2 (by decide) rfl q270 rfl dX0_feed_34 ?_
      refine lv_dup_x1 hx hb dX0_feed_37 rfl rfl ?_
      refine lv_iconst (v := 1) hx hb dX0_feed_38 (by decide) ?_
      refine lv_iadd hx hb dX0_feed_39 ?_
      refine cl_pi S V e0 k2 rfl (by decide) in_X0 tyX0 tyX0_ok nmX0 2 (by decide) rfl q270 rfl rfl rfl dX0_feed_40 (fun _ _ V => ?_)
      obtain ⟨σ4, eσ4⟩ : ∃ x, x = (cl_wi σ0 o0 2 ((cl_i σ0 o0 2) + (1 : Int32))) := ⟨_, rfl⟩
      rw [← eσ4] at V
      replace hF := dx_let_e eσ4 hF
      replace ee3 : cl_at ad σ4 bb3 (cl_r σ0 o0 1) := by rw [eσ4]; exact ee3
      replace e0 : cl_at ad σ4 a0 o0 := by rw [eσ4]; exact e0
      replace k2 : cl_k σ4 o0 = 0 := by rw [eσ4]; exact k2
      refine lv_iload_n hx hb dX0_feed_43 rfl (lv_at hl 1 rfl) ?_
      refine lv_i2b hx hb dX0_feed_44 rfl ?_
      obtain ⟨hg, hF⟩ := dx_gd_some hF
      have k5 := of_decide_eq_true hg
      obtain ⟨hg, hF⟩ := dx_gd_some hF
      refine cl_stb S V ee3 k5 (dx_inb_in hg) dX0_feed_45 (fun _ _ V => ?_)
      obtain ⟨σ6, eσ6⟩ : ∃ x, x = (cl_wi σ4 (cl_r σ0 o0 1) (cl_i σ0 o0 2).toNatClampNeg p0.toInt8.toInt32.toInt8.toInt32) := ⟨_, rfl⟩
      rw [← eσ6] at V
      replace hF := dx_let_e eσ6 hF
      replace e0 : cl_at ad σ6 a0 o0 := by rw [eσ6]; exact e0
      replace k2 : cl_k σ6 o0 = 0 := by rw [eσ6]; exact k2
      replace k5 : cl_k σ6 (cl_r σ0 o0 1) = 21 := by rw [eσ6]; exact k5
      refine lv_aload_n hx hb dX0_feed_46 rfl (lv_at hl 0 rfl) ?_
      refine cl_gi S V e0 k2 rfl (by decide) in_X0 2 (by decide) rfl q270 rfl dX0_feed_47 ?_
      obtain ⟨hF1, hF2⟩ := dx_r2 hF
      subst hF1
      subst hF2
      exact cl_ri S V hr hlocks rfl dX0_feed_50
    · replace hF := (if_pos hc).symm.trans hF
      refine lv_ldc hx hb hown (hts _ q514) dX0_feed_25 ?_
      obtain ⟨hF1, hF2⟩ := dx_r2 hF
      subst hF1
      subst hF2
      exact cl_ri S V hr hlocks rfl dX0_feed_27
  · replace hF := dx_ib_f (dx_bI_0 hc) hF
    refine lv_ldc hx hb hown (hts _ q406) dX0_feed_12 ?_
    obtain ⟨hF1, hF2⟩ := dx_r2 hF
    subst hF1
    subst hF2
    exact cl_ri S V hr hlocks rfl dX0_feed_14
theorem cd_X7_init : yX7_init.cls ≠ "java/lang/invoke/MethodHandle" ∧ yX7_init.cls ≠ "java/lang/invoke/VarHandle" ∧ (parseMethodDescriptor yX7_init.desc).map (fun d => d.parameters.length) = some 2 := by decide +kernel
set_option maxHeartbeats 4000000 in
set_option maxRecDepth 100000 in
theorem cm_X7_init (l : Launch) (D : va_G) (dA : Nat → ClassId) (ad0 : Nat → Nat) (A : Nat → Prop) (a0 : Nat) (a1 : Nat) (o0 : Nat) (o1 : Nat) (p1 : Int32) (σ0 : cl_S) (σ' : cl_S) (e0 : cl_at ad0 σ0 a0 o0) (e1 : cl_at ad0 σ0 a1 o1) (hF : cl_X7_init o0 o1 σ0 p1 = some σ') : cl_Cv l yX7_init cX7_init 3 ({ frames := 2, cells := 7, slots := 67, locals := 41 }) D dA ad0 A [.ref a0, .ref a1, .int p1] σ0 σ' := by
  refine cl_in RX7 rfl (by decide) (Nat.le_of_ble_eq_true rfl) ?_
  intro p e s m below meth c ls S hr hlocks hini hv hl
  have hx := S.1
  have hb := S.2.1
  have hown := S.2.2.2.1
  have hts := S.2.2.2.2
  obtain ⟨hN, hK, hP, hD, hA, hZ⟩ := hv
  have V : cl_V D dA (ad0, cl_n σ0) ad0 A s.heap σ0 s s.heap [] := ⟨hN, hK, hP, hD, va_S.rf, hA, hZ, fun _ _ => rfl, Nat.le_refl _⟩
  obtain ⟨ad, V, e0, e1⟩ : ∃ ad, cl_V D dA (ad0, cl_n σ0) ad A s.heap σ0 s s.heap [] ∧ cl_at ad σ0 a0 o0 ∧ cl_at ad σ0 a1 o1 := ⟨ad0, V, e0, e1⟩
  replace hl : lv_has ls 3 [(0, .ref a0), (1, .ref a1), (2, .int p1)] := hl
  unfold cl_X7_init at hF
  refine lv_aload_n hx hb dX7_init_0 rfl (lv_at hl 0 rfl) ?_
  refine W.objInit hx hb hown (hts _ q525) (hts _ q123) (hts _ q124) rfl (by rw [S.2.2.1]; exact hl.1) rfl dX7_init_1 (Nat.le_of_ble_eq_true rfl) (Nat.le_of_ble_eq_true rfl) ?_
  refine lv_aload_n hx hb dX7_init_4 rfl (lv_at hl 0 rfl) ?_
  refine cl_new S V rfl (by decide) in_X2 tyX2 tyX2_ok cl_dfX2 q526 q141 q79 (Nat.le_of_ble_eq_true rfl) (Nat.le_of_ble_eq_true rfl) dX7_init_5 (fun bb1 ad _ hag ee1 V => ?_)
  replace e0 := cl_at.nw 2 0 e0 hag
  replace e1 := cl_at.nw 2 0 e1 hag
  have k1 : cl_k (cl_nw σ0 2 0) (cl_n σ0 + 1) = 2 := cl_k_nw
  refine lv_dup hx hb dX7_init_8 rfl ?_
  obtain ⟨σ2, h2c, hF⟩ := dx_b1_some hF
  refine cl_cv (va_runI (As := []) S (cm_X2_init l D dA _ A bb1 (cl_n σ0 + 1)  (cl_nw σ0 2 0) _ ee1 h2c) (cwI 0 hts (lw_meth q144) rfl rfl rfl (hts _ q79) (hts _ q527) (hts _ q143) rfl cd_X2_init ⟨Nat.le_of_ble_eq_true rfl, Nat.le_of_ble_eq_true rfl⟩) (cl_preS V [.ref bb1]) rfl rfl hl.1 rfl (lv_room (Nat.le_of_ble_eq_true rfl)) dX7_init_9 ⟨Nat.le_of_ble_eq_true rfl, Nat.le_of_ble_eq_true rfl⟩) V (fun ad _ _ hag hle V => ?_)
  replace e0 := e0.mv hag hle
  replace ee1 := ee1.mv hag hle
  replace e1 := e1.mv hag hle
  obtain ⟨hg, hF⟩ := dx_gd_some hF
  have k3 := of_decide_eq_true hg
  refine cl_prF S V e0 k3 rfl (by decide) in_X7 tyX7 tyX7_ok nmX7 6 (by decide) rfl q534 rfl rfl hini rfl ee1 rfl rfl dX7_init_12 (fun _ _ V => ?_)
  refine lv_aload_n hx hb dX7_init_15 rfl (lv_at hl 0 rfl) ?_
  refine lv_aload_n hx hb dX7_init_16 rfl (lv_at hl 1 rfl) ?_
  refine cl_prF S V e0 k3 rfl (by decide) in_X7 tyX7 tyX7_ok nmX7 0 (by decide) rfl q528 rfl rfl hini rfl e1 rfl rfl dX7_init_17 (fun _ _ V => ?_)
  refine lv_aload_n hx hb dX7_init_20 rfl (lv_at hl 0 rfl) ?_
  refine lv_iload_n hx hb dX7_init_21 rfl (lv_at hl 2 rfl) ?_
  refine cl_piF S V e0 k3 rfl (by decide) in_X7 tyX7 tyX7_ok nmX7 1 (by decide) rfl q529 rfl rfl rfl hini rfl dX7_init_22 (fun _ _ V => ?_)
  obtain ⟨σ4, eσ4⟩ : ∃ x, x = (cl_wi (cl_wr (cl_wr σ2 o0 6 (cl_n σ0 + 1)) o0 0 o1) o0 1 p1) := ⟨_, rfl⟩
  rw [← eσ4] at V
  replace hF := dx_let_e eσ4 hF
  replace e0 : cl_at ad σ4 a0 o0 := by rw [eσ4]; exact e0
  replace e1 : cl_at ad σ4 a1 o1 := by rw [eσ4]; exact e1
  replace k3 : cl_k σ4 o0 = 7 := by rw [eσ4]; exact k3
  refine W.widen (k := 7) (n := 67) (by first | omega | (dsimp only; omega)) (by first | omega | (dsimp only; omega)) ?_
  replace hF := Option.some.inj hF
  subst hF
  exact cl_rv S V hr hlocks dX7_init_25
