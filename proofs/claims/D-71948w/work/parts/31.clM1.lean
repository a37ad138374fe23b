/-! the class side read back and walked (printed by gen/clmain.py) -/
theorem cd_X7_look : yX7_look.cls ≠ "java/lang/invoke/MethodHandle" ∧ yX7_look.cls ≠ "java/lang/invoke/VarHandle" ∧ (parseMethodDescriptor yX7_look.desc).map (fun d => d.parameters.length) = some 0 := by decide +kernel
set_option maxHeartbeats 4000000 in
set_option maxRecDepth 100000 in
theorem cm_X7_look (l : Launch) (D : va_G) (dA : Nat → ClassId) (ad0 : Nat → Nat) (A : Nat → Prop) (a0 : Nat) (o0 : Nat)  (σ0 : cl_S) (r : Int32) (e0 : cl_at ad0 σ0 a0 o0) (hF : cl_X7_look o0 σ0 = some r) : cl_Ci l yX7_look cX7_look 1 .int ({ frames := 0, cells := 0, slots := 0, locals := 0 }) D dA ad0 A [.ref a0] σ0 r σ0 := by
  refine cl_in RX7 rfl (by decide) (Nat.le_of_ble_eq_true rfl) ?_
  intro p e s m below meth c ls S hr hlocks hini hv hl
  have hx := S.1
  have hb := S.2.1
  have hown := S.2.2.2.1
  have hts := S.2.2.2.2
  obtain ⟨hN, hK, hP, hD, hA, hZ⟩ := hv
  have V : cl_V D dA (ad0, cl_n σ0) ad0 A s.heap σ0 s s.heap [] := ⟨hN, hK, hP, hD, va_S.rf, hA, hZ, fun _ _ => rfl, Nat.le_refl _⟩
  obtain ⟨ad, V, e0⟩ : ∃ ad, cl_V D dA (ad0, cl_n σ0) ad A s.heap σ0 s s.heap [] ∧ cl_at ad σ0 a0 o0 := ⟨ad0, V, e0⟩
  replace hl : lv_has ls 1 [(0, .ref a0)] := hl
  unfold cl_X7_look at hF
  refine lv_aload_n hx hb dX7_look_0 rfl (lv_at hl 0 rfl) ?_
  obtain ⟨hg, hF⟩ := dx_gd_some hF
  have k1 := of_decide_eq_true hg
  refine cl_gi S V e0 k1 rfl (by decide) in_X7 2 (by decide) rfl q530 rfl dX7_look_1 ?_
  refine lv_aload_n hx hb dX7_look_4 rfl (lv_at hl 0 rfl) ?_
  refine cl_gi S V e0 k1 rfl (by decide) in_X7 1 (by decide) rfl q529 rfl dX7_look_5 ?_
  refine lv_icmp_ge (tgt := 27) hx hb dX7_look_8 (by decide) (fun hc => ?_) (fun hc => ?_)
  · replace hF := (if_pos hc).symm.trans hF
    refine lv_ldc hx hb hown (hts _ q563) dX7_look_27 ?_
    replace hF := Option.some.inj hF
    subst hF
    exact cl_ri S V hr hlocks rfl dX7_look_29
  · replace hF := (if_neg hc).symm.trans hF
    refine lv_aload_n hx hb dX7_look_11 rfl (lv_at hl 0 rfl) ?_
    obtain ⟨hg, hF⟩ := dx_gd_some hF
    refine cl_gr S V e0 k1 rfl (by decide) in_X7 0 (by decide) rfl q528 rfl dX7_look_12 (of_decide_eq_true hg) (fun bb2 ee2 => ?_)
    refine lv_aload_n hx hb dX7_look_15 rfl (lv_at hl 0 rfl) ?_
    refine cl_gi S V e0 k1 rfl (by decide) in_X7 2 (by decide) rfl q530 rfl dX7_look_16 ?_
    obtain ⟨hg, hF⟩ := dx_gd_some hF
    have k3 := of_decide_eq_true hg
    obtain ⟨hg, hF⟩ := dx_gd_some hF
    refine cl_ldb S V ee2 k3 (dx_inb_in hg) dX7_look_19 ?_
    refine lv_sipush (v := 255) hx hb dX7_look_20 (by decide) ?_
    refine lv_iand hx hb dX7_look_23 ?_
    refine lv_goto (tgt := 29) hx hb dX7_look_24 (by decide) ?_
    replace hF := Option.some.inj hF
    subst hF
    exact cl_ri S V hr hlocks rfl dX7_look_29
theorem cd_X7_next : yX7_next.cls ≠ "java/lang/invoke/MethodHandle" ∧ yX7_next.cls ≠ "java/lang/invoke/VarHandle" ∧ (parseMethodDescriptor yX7_next.desc).map (fun d => d.parameters.length) = some 0 := by decide +kernel
set_option maxHeartbeats 4000000 in
set_option maxRecDepth 100000 in
theorem cm_X7_next (l : Launch) (D : va_G) (dA : Nat → ClassId) (ad0 : Nat → Nat) (A : Nat → Prop) (a0 : Nat) (o0 : Nat)  (σ0 : cl_S) (σ' : cl_S) (e0 : cl_at ad0 σ0 a0 o0) (hF : cl_X7_next o0 σ0 = some σ') : cl_Cv l yX7_next cX7_next 2 ({ frames := 1, cells := 0, slots := 0, locals := 25 }) D dA ad0 A [.ref a0] σ0 σ' := by
  refine cl_in RX7 rfl (by decide) (Nat.le_of_ble_eq_true rfl) ?_
  intro p e s m below meth c ls S hr hlocks hini hv hl
  have hx := S.1
  have hb := S.2.1
  have hown := S.2.2.2.1
  have hts := S.2.2.2.2
  obtain ⟨hN, hK, hP, hD, hA, hZ⟩ := hv
  have V : cl_V D dA (ad0, cl_n σ0) ad0 A s.heap σ0 s s.heap [] := ⟨hN, hK, hP, hD, va_S.rf, hA, hZ, fun _ _ => rfl, Nat.le_refl _⟩
  obtain ⟨ad, V, e0⟩ : ∃ ad, cl_V D dA (ad0, cl_n σ0) ad A s.heap σ0 s s.heap [] ∧ cl_at ad σ0 a0 o0 := ⟨ad0, V, e0⟩
  replace hl : lv_has ls 2 [(0, .ref a0)] := hl
  unfold cl_X7_next at hF
  have hJ210 : ∀ (σ : cl_S) (t1 : Int32) (ad : Nat → Nat) (H : Heap) (locs : List Loc) (ls : Array Slot), cl_X7_next_J210 o0 σ t1 = some σ' → cl_at ad σ a0 o0 → cl_V D dA (ad0, cl_n σ0) ad A s.heap σ s H locs → lv_has ls 2 [] → W p l e ({ frames := 1, cells := 0, slots := 0, locals := 25 }) s m ([.ref a0] : List Value).toArray below meth c H locs 0 0 (MQ below (cl_Qv D dA ad0 A σ0 σ') ([.ref a0] : List Value).toArray s 0 0 A) (F0 m 210 ls [.int t1, .ref a0]) := by
    intro σ t1 ad H locs ls hF e0 V hl
    unfold cl_X7_next_J210 at hF
    obtain ⟨hg, hF⟩ := dx_gd_some hF
    have k12 := of_decide_eq_true hg
    refine cl_pi S V e0 k12 rfl (by decide) in_X7 tyX7 tyX7_ok nmX7 3 (by decide) rfl q531 rfl rfl rfl dX7_next_210 (fun _ _ V => ?_)
    replace hF := Option.some.inj hF
    subst hF
    exact cl_rv S V hr hlocks dX7_next_213
  have hL122 : ∀  (n : Nat) (σ : cl_S) (ad : Nat → Nat) (H : Heap) (locs : List Loc) (ls : Array Slot), dx_lp (fun x => cl_X7_next_L122 o0 x) n σ = some σ' → cl_at ad σ a0 o0 → cl_V D dA (ad0, cl_n σ0) ad A s.heap σ s H locs → lv_has ls 2 [(0, .ref a0)] → W p l e ({ frames := 1, cells := 0, slots := 0, locals := 25 }) s m ([.ref a0] : List Value).toArray below meth c H locs 0 0 (MQ below (cl_Qv D dA ad0 A σ0 σ') ([.ref a0] : List Value).toArray s 0 0 A) (F0 m 122 ls []) := by
    intro n
    induction n with
    | zero =>
      intro σ ad H locs ls hF e0 V hl
      exact (dx_lp_0 hF).elim
    | succ n ih122 =>
      intro σ ad H locs ls hF e0 V hl
      obtain ⟨y122, hF, hz122⟩ := dx_lp_s hF
      replace hF : cl_X7_next_L122 o0 σ = some y122 := hF
      unfold cl_X7_next_L122 at hF
      have hJ175 : ∀ (σ : cl_S) (t1 : Int32) (ad : Nat → Nat) (H : Heap) (locs : List Loc) (ls : Array Slot), cl_X7_next_J175 o0 σ t1 = some y122 → cl_at ad σ a0 o0 → cl_at ad σ a0 o0 → cl_V D dA (ad0, cl_n σ0) ad A s.heap σ s H locs → lv_has ls 2 [(0, .ref a0)] → W p l e ({ frames := 1, cells := 0, slots := 0, locals := 25 }) s m ([.ref a0] : List Value).toArray below meth c H locs 0 0 (MQ below (cl_Qv D dA ad0 A σ0 σ') ([.ref a0] : List Value).toArray s 0 0 A) (F0 m 175 ls [.int t1, .ref a0]) := by
        intro σ t1 ad H locs ls hF e0 e0 V hl
        unfold cl_X7_next_J175 at hF
        obtain ⟨hg, hF⟩ := dx_gd_some hF
        have k13 := of_decide_eq_true hg
        refine cl_pi S V e0 k13 rfl (by decide) in_X7 tyX7 tyX7_ok nmX7 5 (by decide) rfl q533 rfl rfl rfl dX7_next_175 (fun _ _ V => ?_)
        refine lv_aload_n hx hb dX7_next_178 rfl (lv_at hl 0 rfl) ?_
        refine lv_dup hx hb dX7_next_179 rfl ?_
        refine cl_gi S V e0 k13 rfl (by decide) in_X7 2 (by decide) rfl q530 rfl dX7_next_180 ?_
        refine lv_iconst (v := 1) hx hb dX7_next_183 (by decide) ?_
        refine lv_iadd hx hb dX7_next_184 ?_
        refine cl_pi S V e0 k13 rfl (by decide) in_X7 tyX7 tyX7_ok nmX7 2 (by decide) rfl q530 rfl rfl rfl dX7_next_185 (fun _ _ V => ?_)
        obtain ⟨σ14, eσ14⟩ : ∃ x, x = (cl_wi (cl_wi σ o0 5 t1) o0 2 ((cl_i (cl_wi σ o0 5 t1) o0 2) + (1 : Int32))) := ⟨_, rfl⟩
        rw [← eσ14] at V
        replace hF := dx_let_e eσ14 hF
        replace e0 : cl_at ad σ14 a0 o0 := by rw [eσ14]; exact e0
        replace k13 : cl_k σ14 o0 = 7 := by rw [eσ14]; exact k13
        refine lv_goto (tgt := 122) hx hb dX7_next_188 (by decide) ?_
        replace hF := Option.some.inj hF
        subst hF
        exact ih122 σ14 _ _ _ _ (dx_lk_l hz122) e0 V (lv_sub hl [0] rfl)
      refine lv_aload_n hx hb dX7_next_122 rfl (lv_at hl 0 rfl) ?_
      obtain ⟨hg, hF⟩ := dx_gd_some hF
      have k10 := of_decide_eq_true hg
      obtain ⟨r9, h9c, hF⟩ := dx_b1_some hF
      refine cl_ci (va_runV (As := []) S (cm_X7_look l D dA _ A a0 o0  σ _ e0 h9c) (cwV 0 hts (lw_V q559 q561 qs8 q94 q562) rfl rfl rfl ⟨rfl, cd_X7_look⟩ ⟨Nat.le_of_ble_eq_true rfl, Nat.le_of_ble_eq_true rfl⟩) (cl_preV V [] e0 k10 rfl (by decide)) rfl rfl hl.1 rfl (lv_room (Nat.le_of_ble_eq_true rfl)) dX7_next_123 ⟨Nat.le_of_ble_eq_true rfl, Nat.le_of_ble_eq_true rfl⟩) V (fun ad _ _ hag hle V => ?_)
      replace e0 := e0.mv hag hle
      refine lv_i2l hx hb dX7_next_126 rfl ?_
      refine lv_ldc2 hx hb hown (hts _ q567) dX7_next_127 ?_
      refine lv_ldc2 hx hb hown (hts _ q568) dX7_next_130 ?_
      obtain ⟨r11, h11c, hF⟩ := dx_b1_some hF
      refine dx_cPNi S [.long r9.toInt64, .long (48 : Int64), .long (57 : Int64)] (cm_X0_isIn l r9.toInt64 (48 : Int64) (57 : Int64) _ h11c) ⟨va_cnB 3 hts (lw_meth q404) rfl rfl rfl (V.1.1 _ cn_q566) (hts _ q77) cd_X0_isIn ⟨Nat.le_of_ble_eq_true rfl, Nat.le_of_ble_eq_true rfl⟩, hts _ q403, trivial⟩ rfl rfl hl.1 (Nat.le_of_ble_eq_true rfl) dX7_next_133 ⟨Nat.le_of_ble_eq_true rfl, Nat.le_of_ble_eq_true rfl⟩ ?_
      refine lv_if_eq (tgt := 191) hx hb dX7_next_136 (by decide) (fun hc => ?_) (fun hc => ?_)
      · replace hF := dx_ib_f (dx_bI_0 hc) hF
        replace hF := dx_ex_k hF hz122
        refine lv_aload_n hx hb dX7_next_191 rfl (lv_at hl 0 rfl) ?_
        refine lv_aload_n hx hb dX7_next_192 rfl (lv_at hl 0 rfl) ?_
        refine cl_gi S V e0 k10 rfl (by decide) in_X7 2 (by decide) rfl q530 rfl dX7_next_193 ?_
        refine lv_aload_n hx hb dX7_next_196 rfl (lv_at hl 0 rfl) ?_
        refine cl_gi S V e0 k10 rfl (by decide) in_X7 4 (by decide) rfl q532 rfl dX7_next_197 ?_
        refine lv_isub hx hb dX7_next_200 ?_
        refine lv_iconst (v := 2) hx hb dX7_next_201 (by decide) ?_
        refine lv_icmp_le (tgt := 209) hx hb dX7_next_202 (by decide) (fun hc => ?_) (fun hc => ?_)
        · replace hF := (if_pos hc).symm.trans hF
          refine lv_iconst (v := 2) hx hb dX7_next_209 (by decide) ?_
          exact hJ210 σ (2 : Int32) _ _ _ _ hF e0 V (lv_sub hl [] rfl)
        · replace hF := (if_neg hc).symm.trans hF
          refine lv_iconst (v := 4) hx hb dX7_next_205 (by decide) ?_
          refine lv_goto (tgt := 210) hx hb dX7_next_206 (by decide) ?_
          exact hJ210 σ (4 : Int32) _ _ _ _ hF e0 V (lv_sub hl [] rfl)
      · replace hF := dx_ib_t (dx_bI_n hc) hF
        refine lv_aload_n hx hb dX7_next_139 rfl (lv_at hl 0 rfl) ?_
        refine lv_aload_n hx hb dX7_next_140 rfl (lv_at hl 0 rfl) ?_
        refine cl_gi S V e0 k10 rfl (by decide) in_X7 2 (by decide) rfl q530 rfl dX7_next_141 ?_
        refine lv_aload_n hx hb dX7_next_144 rfl (lv_at hl 0 rfl) ?_
        refine cl_gi S V e0 k10 rfl (by decide) in_X7 4 (by decide) rfl q532 rfl dX7_next_145 ?_
        refine lv_iconst (v := 1) hx hb dX7_next_148 (by decide) ?_
        refine lv_iadd hx hb dX7_next_149 ?_
        refine lv_icmp_ne (tgt := 171) hx hb dX7_next_150 (by decide) (fun hc => ?_) (fun hc => ?_)
        · replace hF := (if_neg hc).symm.trans hF
          refine lv_aload_n hx hb dX7_next_171 rfl (lv_at hl 0 rfl) ?_
          refine cl_gi S V e0 k10 rfl (by decide) in_X7 5 (by decide) rfl q533 rfl dX7_next_172 ?_
          exact hJ175 σ (cl_i σ o0 5) _ _ _ _ hF e0 e0 V (lv_sub hl [0] rfl)
        · replace hF := (if_pos hc).symm.trans hF
          refine lv_bipush (v := 10) hx hb dX7_next_153 (by decide) ?_
          refine lv_aload_n hx hb dX7_next_155 rfl (lv_at hl 0 rfl) ?_
          refine cl_gi S V e0 k10 rfl (by decide) in_X7 5 (by decide) rfl q533 rfl dX7_next_156 ?_
          refine lv_imul hx hb dX7_next_159 ?_
          refine lv_aload_n hx hb dX7_next_160 rfl (lv_at hl 0 rfl) ?_
          obtain ⟨r15, h15c, hF⟩ := dx_b1_some hF
          refine cl_ci (va_runV (As := []) S (cm_X7_look l D dA _ A a0 o0  σ _ e0 h15c) (cwV 0 hts (lw_V q559 q561 qs8 q94 q562) rfl rfl rfl ⟨rfl, cd_X7_look⟩ ⟨Nat.le_of_ble_eq_true rfl, Nat.le_of_ble_eq_true rfl⟩) (cl_preV V [] e0 k10 rfl (by decide)) rfl rfl hl.1 rfl (lv_room (Nat.le_of_ble_eq_true rfl)) dX7_next_161 ⟨Nat.le_of_ble_eq_true rfl, Nat.le_of_ble_eq_true rfl⟩) V (fun ad _ _ hag hle V => ?_)
          replace e0 := e0.mv hag hle
          refine lv_iadd hx hb dX7_next_164 ?_
          refine lv_bipush (v := 48) hx hb dX7_next_165 (by decide) ?_
          refine lv_isub hx hb dX7_next_167 ?_
          refine lv_goto (tgt := 175) hx hb dX7_next_168 (by decide) ?_
          exact hJ175 σ ((((10 : Int32) * (cl_i σ o0 5)) + r15) - (48 : Int32)) _ _ _ _ hF e0 e0 V (lv_sub hl [0] rfl)
  have hJ102 : ∀ (σ : cl_S) (v1 : Int32) (t1 : Int32) (ad : Nat → Nat) (H : Heap) (locs : List Loc) (ls : Array Slot), cl_X7_next_J102 o0 σ v1 t1 = some σ' → cl_at ad σ a0 o0 → cl_at ad σ a0 o0 → cl_V D dA (ad0, cl_n σ0) ad A s.heap σ s H locs → lv_has ls 2 [(0, .ref a0), (1, .int v1)] → W p l e ({ frames := 1, cells := 0, slots := 0, locals := 25 }) s m ([.ref a0] : List Value).toArray below meth c H locs 0 0 (MQ below (cl_Qv D dA ad0 A σ0 σ') ([.ref a0] : List Value).toArray s 0 0 A) (F0 m 102 ls [.int t1, .ref a0]) := by
    intro σ v1 t1 ad H locs ls hF e0 e0 V hl
    unfold cl_X7_next_J102 at hF
    obtain ⟨hg, hF⟩ := dx_gd_some hF
    have k7 := of_decide_eq_true hg
    refine cl_pi S V e0 k7 rfl (by decide) in_X7 tyX7 tyX7_ok nmX7 3 (by decide) rfl q531 rfl rfl rfl dX7_next_102 (fun _ _ V => ?_)
    refine lv_aload_n hx hb dX7_next_105 rfl (lv_at hl 0 rfl) ?_
    refine cl_gi S V e0 k7 rfl (by decide) in_X7 3 (by decide) rfl q531 rfl dX7_next_106 ?_
    refine lv_iconst (v := 2) hx hb dX7_next_109 (by decide) ?_
    refine lv_icmp_eq (tgt := 114) hx hb dX7_next_110 (by decide) (fun hc => ?_) (fun hc => ?_)
    · replace hF := (if_pos hc).symm.trans hF
      refine lv_aload_n hx hb dX7_next_114 rfl (lv_at hl 0 rfl) ?_
      refine lv_iload_n hx hb dX7_next_115 rfl (lv_at hl 1 rfl) ?_
      refine lv_bipush (v := 48) hx hb dX7_next_116 (by decide) ?_
      refine lv_isub hx hb dX7_next_118 ?_
      refine cl_pi S V e0 k7 rfl (by decide) in_X7 tyX7 tyX7_ok nmX7 5 (by decide) rfl q533 rfl rfl rfl dX7_next_119 (fun _ _ V => ?_)
      obtain ⟨σ8, eσ8⟩ : ∃ x, x = (cl_wi (cl_wi σ o0 3 t1) o0 5 (v1 - (48 : Int32))) := ⟨_, rfl⟩
      rw [← eσ8] at V
      replace hF := dx_let_e eσ8 hF
      replace e0 : cl_at ad σ8 a0 o0 := by rw [eσ8]; exact e0
      replace k7 : cl_k σ8 o0 = 7 := by rw [eσ8]; exact k7
      exact hL122  dx_fu σ8 _ _ _ _ hF e0 V (lv_sub hl [0] rfl)
    · replace hF := (if_neg hc).symm.trans hF
      replace hF := Option.some.inj hF
      subst hF
      exact cl_rv S V hr hlocks dX7_next_113
  have hJ34 : ∀ (σ : cl_S) (v1 : Int32) (t1 : Int32) (t2 : Bool) (ad : Nat → Nat) (H : Heap) (locs : List Loc) (ls : Array Slot), cl_X7_next_J34 o0 σ v1 t1 t2 = some σ' → cl_at ad σ a0 o0 → cl_at ad σ a0 o0 → cl_V D dA (ad0, cl_n σ0) ad A s.heap σ s H locs → lv_has ls 2 [(0, .ref a0), (1, .int v1)] → W p l e ({ frames := 1, cells := 0, slots := 0, locals := 25 }) s m ([.ref a0] : List Value).toArray below meth c H locs 0 0 (MQ below (cl_Qv D dA ad0 A σ0 σ') ([.ref a0] : List Value).toArray s 0 0 A) (F0 m 34 ls [.int (dx_bI t2), .int t1, .ref a0]) := by
    intro σ v1 t1 t2 ad H locs ls hF e0 e0 V hl
    unfold cl_X7_next_J34 at hF
    refine lv_iadd hx hb dX7_next_34 ?_
    obtain ⟨hg, hF⟩ := dx_gd_some hF
    have k4 := of_decide_eq_true hg
    refine cl_pi S V e0 k4 rfl (by decide) in_X7 tyX7 tyX7_ok nmX7 2 (by decide) rfl q530 rfl rfl rfl dX7_next_35 (fun _ _ V => ?_)
    refine lv_aload_n hx hb dX7_next_38 rfl (lv_at hl 0 rfl) ?_
    refine lv_iload_n hx hb dX7_next_39 rfl (lv_at hl 1 rfl) ?_
    refine lv_ldc hx hb hown (hts _ q563) dX7_next_40 ?_
    refine lv_icmp_ne (tgt := 49) hx hb dX7_next_42 (by decide) (fun hc => ?_) (fun hc => ?_)
    · replace hF := (if_neg hc).symm.trans hF
      refine lv_iload_n hx hb dX7_next_49 rfl (lv_at hl 1 rfl) ?_
      refine lv_i2l hx hb dX7_next_50 rfl ?_
      refine lv_ldc2 hx hb hown (hts _ q564) dX7_next_51 ?_
      refine lv_ldc2 hx hb hown (hts _ q565) dX7_next_54 ?_
      obtain ⟨r5, h5c, hF⟩ := dx_b1_some hF
      refine dx_cPNi S [.long v1.toInt64, .long (97 : Int64), .long (122 : Int64)] (cm_X0_isIn l v1.toInt64 (97 : Int64) (122 : Int64) _ h5c) ⟨va_cnB 3 hts (lw_meth q404) rfl rfl rfl (V.1.1 _ cn_q566) (hts _ q77) cd_X0_isIn ⟨Nat.le_of_ble_eq_true rfl, Nat.le_of_ble_eq_true rfl⟩, hts _ q403, trivial⟩ rfl rfl hl.1 (Nat.le_of_ble_eq_true rfl) dX7_next_57 ⟨Nat.le_of_ble_eq_true rfl, Nat.le_of_ble_eq_true rfl⟩ ?_
      refine lv_if_eq (tgt := 67) hx hb dX7_next_60 (by decide) (fun hc => ?_) (fun hc => ?_)
      · replace hF := dx_ib_f (dx_bI_0 hc) hF
        refine lv_iload_n hx hb dX7_next_67 rfl (lv_at hl 1 rfl) ?_
        refine lv_i2l hx hb dX7_next_68 rfl ?_
        refine lv_ldc2 hx hb hown (hts _ q567) dX7_next_69 ?_
        refine lv_ldc2 hx hb hown (hts _ q568) dX7_next_72 ?_
        obtain ⟨r6, h6c, hF⟩ := dx_b1_some hF
        refine dx_cPNi S [.long v1.toInt64, .long (48 : Int64), .long (57 : Int64)] (cm_X0_isIn l v1.toInt64 (48 : Int64) (57 : Int64) _ h6c) ⟨va_cnB 3 hts (lw_meth q404) rfl rfl rfl (V.1.1 _ cn_q566) (hts _ q77) cd_X0_isIn ⟨Nat.le_of_ble_eq_true rfl, Nat.le_of_ble_eq_true rfl⟩, hts _ q403, trivial⟩ rfl rfl hl.1 (Nat.le_of_ble_eq_true rfl) dX7_next_75 ⟨Nat.le_of_ble_eq_true rfl, Nat.le_of_ble_eq_true rfl⟩ ?_
        refine lv_if_eq (tgt := 85) hx hb dX7_next_78 (by decide) (fun hc => ?_) (fun hc => ?_)
        · replace hF := dx_ib_f (dx_bI_0 hc) hF
          refine lv_iload_n hx hb dX7_next_85 rfl (lv_at hl 1 rfl) ?_
          refine lv_bipush (v := 44) hx hb dX7_next_86 (by decide) ?_
          refine lv_icmp_eq (tgt := 97) hx hb dX7_next_88 (by decide) (fun hc => ?_) (fun hc => ?_)
          · replace hF := (if_pos hc).symm.trans hF
            refine lv_iconst (v := 3) hx hb dX7_next_97 (by decide) ?_
            refine lv_goto (tgt := 102) hx hb dX7_next_98 (by decide) ?_
            exact hJ102 (cl_wi σ o0 2 (t1 + (dx_bI t2))) v1 (3 : Int32) _ _ _ _ hF e0 e0 V (lv_sub hl [0, 1] rfl)
          · replace hF := (if_neg hc).symm.trans hF
            refine lv_iload_n hx hb dX7_next_91 rfl (lv_at hl 1 rfl) ?_
            refine lv_bipush (v := 59) hx hb dX7_next_92 (by decide) ?_
            refine lv_icmp_ne (tgt := 101) hx hb dX7_next_94 (by decide) (fun hc => ?_) (fun hc => ?_)
            · replace hF := (if_neg hc).symm.trans hF
              refine lv_iconst (v := 4) hx hb dX7_next_101 (by decide) ?_
              exact hJ102 (cl_wi σ o0 2 (t1 + (dx_bI t2))) v1 (4 : Int32) _ _ _ _ hF e0 e0 V (lv_sub hl [0, 1] rfl)
            · replace hF := (if_pos hc).symm.trans hF
              refine lv_iconst (v := 3) hx hb dX7_next_97 (by decide) ?_
              refine lv_goto (tgt := 102) hx hb dX7_next_98 (by decide) ?_
              exact hJ102 (cl_wi σ o0 2 (t1 + (dx_bI t2))) v1 (3 : Int32) _ _ _ _ hF e0 e0 V (lv_sub hl [0, 1] rfl)
        · replace hF := dx_ib_t (dx_bI_n hc) hF
          refine lv_iconst (v := 2) hx hb dX7_next_81 (by decide) ?_
          refine lv_goto (tgt := 102) hx hb dX7_next_82 (by decide) ?_
          exact hJ102 (cl_wi σ o0 2 (t1 + (dx_bI t2))) v1 (2 : Int32) _ _ _ _ hF e0 e0 V (lv_sub hl [0, 1] rfl)
      · replace hF := dx_ib_t (dx_bI_n hc) hF
        refine lv_iconst (v := 1) hx hb dX7_next_63 (by decide) ?_
        refine lv_goto (tgt := 102) hx hb dX7_next_64 (by decide) ?_
        exact hJ102 (cl_wi σ o0 2 (t1 + (dx_bI t2))) v1 (1 : Int32) _ _ _ _ hF e0 e0 V (lv_sub hl [0, 1] rfl)
    · replace hF := (if_pos hc).symm.trans hF
      refine lv_iconst (v := 0) hx hb dX7_next_45 (by decide) ?_
      refine lv_goto (tgt := 102) hx hb dX7_next_46 (by decide) ?_
      exact hJ102 (cl_wi σ o0 2 (t1 + (dx_bI t2))) v1 (0 : Int32) _ _ _ _ hF e0 e0 V (lv_sub hl [0, 1] rfl)
  refine lv_aload_n hx hb dX7_next_0 rfl (lv_at hl 0 rfl) ?_
  refine lv_aload_n hx hb dX7_next_1 rfl (lv_at hl 0 rfl) ?_
  obtain ⟨hg, hF⟩ := dx_gd_some hF
  have k1 := of_decide_eq_true hg
  refine cl_gi S V e0 k1 rfl (by decide) in_X7 2 (by decide) rfl q530 rfl dX7_next_2 ?_
  refine cl_pi S V e0 k1 rfl (by decide) in_X7 tyX7 tyX7_ok nmX7 4 (by decide) rfl q532 rfl rfl rfl dX7_next_5 (fun _ _ V => ?_)
  refine lv_aload_n hx hb dX7_next_8 rfl (lv_at hl 0 rfl) ?_
  obtain ⟨r2, h2c, hF⟩ := dx_b1_some hF
  refine cl_ci (va_runV (As := []) S (cm_X7_look l D dA _ A a0 o0  (cl_wi σ0 o0 4 (cl_i σ0 o0 2)) _ e0 h2c) (cwV 0 hts (lw_V q559 q561 qs8 q94 q562) rfl rfl rfl ⟨rfl, cd_X7_look⟩ ⟨Nat.le_of_ble_eq_true rfl, Nat.le_of_ble_eq_true rfl⟩) (cl_preV V [] e0 k1 rfl (by decide)) rfl rfl hl.1 rfl (lv_room (Nat.le_of_ble_eq_true rfl)) dX7_next_9 ⟨Nat.le_of_ble_eq_true rfl, Nat.le_of_ble_eq_true rfl⟩) V (fun ad _ _ hag hle V => ?_)
  replace e0 := e0.mv hag hle
  refine lv_istore_n (lv' := [(1, .int r2), (0, .ref a0)]) hx hb dX7_next_12 rfl hl (by decide) rfl (fun ls hl => ?_)
  refine lv_aload_n hx hb dX7_next_13 rfl (lv_at hl 1 rfl) ?_
  refine lv_iload_n hx hb dX7_next_14 rfl (lv_at hl 0 rfl) ?_
  refine cl_pi S V e0 k1 rfl (by decide) in_X7 tyX7 tyX7_ok nmX7 5 (by decide) rfl q533 rfl rfl rfl dX7_next_15 (fun _ _ V => ?_)
  obtain ⟨σ3, eσ3⟩ : ∃ x, x = (cl_wi (cl_wi σ0 o0 4 (cl_i σ0 o0 2)) o0 5 r2) := ⟨_, rfl⟩
  rw [← eσ3] at V
  replace hF := dx_let_e eσ3 hF
  replace e0 : cl_at ad σ3 a0 o0 := by rw [eσ3]; exact e0
  replace k1 : cl_k σ3 o0 = 7 := by rw [eσ3]; exact k1
  refine lv_aload_n hx hb dX7_next_18 rfl (lv_at hl 1 rfl) ?_
  refine lv_dup hx hb dX7_next_19 rfl ?_
  refine cl_gi S V e0 k1 rfl (by decide) in_X7 2 (by decide) rfl q530 rfl dX7_next_20 ?_
  refine lv_iload_n hx hb dX7_next_23 rfl (lv_at hl 0 rfl) ?_
  refine lv_ldc hx hb hown (hts _ q563) dX7_next_24 ?_
  refine lv_icmp_ne (tgt := 33) hx hb dX7_next_26 (by decide) (fun hc => ?_) (fun hc => ?_)
  · replace hF := (if_neg hc).symm.trans hF
    refine lv_iconst (v := 1) hx hb dX7_next_33 (by decide) ?_
    exact hJ34 σ3 r2 (cl_i σ3 o0 2) true _ _ _ _ hF e0 e0 V (lv_sub hl [1, 0] rfl)
  · replace hF := (if_pos hc).symm.trans hF
    refine lv_iconst (v := 0) hx hb dX7_next_29 (by decide) ?_
    refine lv_goto (tgt := 34) hx hb dX7_next_30 (by decide) ?_
    exact hJ34 σ3 r2 (cl_i σ3 o0 2) false _ _ _ _ hF e0 e0 V (lv_sub hl [1, 0] rfl)
theorem cd_X7_is : yX7_is.cls ≠ "java/lang/invoke/MethodHandle" ∧ yX7_is.cls ≠ "java/lang/invoke/VarHandle" ∧ (parseMethodDescriptor yX7_is.desc).map (fun d => d.parameters.length) = some 2 := by decide +kernel
set_option maxHeartbeats 4000000 in
set_option maxRecDepth 100000 in
theorem cm_X7_is (l : Launch) (D : va_G) (dA : Nat → ClassId) (ad0 : Nat → Nat) (A : Nat → Prop) (a0 : Nat) (o0 : Nat) (p0 : Int32) (p1 : Int32) (σ0 : cl_S) (r : Bool) (e0 : cl_at ad0 σ0 a0 o0) (hF : cl_X7_is o0 σ0 p0 p1 = some r) : cl_Ci l yX7_is cX7_is 3 .boolean ({ frames := 0, cells := 0, slots := 0, locals := 0 }) D dA ad0 A [.ref a0, .int p0, .int p1] σ0 (dx_bI r) σ0 := by
  refine cl_in RX7 rfl (by decide) (Nat.le_of_ble_eq_true rfl) ?_
  intro p e s m below meth c ls S hr hlocks hini hv hl
  have hx := S.1
  have hb := S.2.1
  have hown := S.2.2.2.1
  have hts := S.2.2.2.2
  obtain ⟨hN, hK, hP, hD, hA, hZ⟩ := hv
  have V : cl_V D dA (ad0, cl_n σ0) ad0 A s.heap σ0 s s.heap [] := ⟨hN, hK, hP, hD, va_S.rf, hA, hZ, fun _ _ => rfl, Nat.le_refl _⟩
  obtain ⟨ad, V, e0⟩ : ∃ ad, cl_V D dA (ad0, cl_n σ0) ad A s.heap σ0 s s.heap [] ∧ cl_at ad σ0 a0 o0 := ⟨ad0, V, e0⟩
  replace hl : lv_has ls 3 [(0, .ref a0), (1, .int p0), (2, .int p1)] := hl
  unfold cl_X7_is at hF
  refine lv_aload_n hx hb dX7_is_0 rfl (lv_at hl 0 rfl) ?_
  obtain ⟨hg, hF⟩ := dx_gd_some hF
  have k1 := of_decide_eq_true hg
  refine cl_gi S V e0 k1 rfl (by decide) in_X7 3 (by decide) rfl q531 rfl dX7_is_1 ?_
  refine lv_iload_n hx hb dX7_is_4 rfl (lv_at hl 1 rfl) ?_
  refine lv_icmp_ne (tgt := 20) hx hb dX7_is_5 (by decide) (fun hc => ?_) (fun hc => ?_)
  · replace hF := (if_neg hc).symm.trans hF
    refine lv_iconst (v := 0) hx hb dX7_is_20 (by decide) ?_
    replace hF := Option.some.inj hF
    subst hF
    exact cl_ri S V hr hlocks rfl dX7_is_21
  · replace hF := (if_pos hc).symm.trans hF
    refine lv_aload_n hx hb dX7_is_8 rfl (lv_at hl 0 rfl) ?_
    refine cl_gi S V e0 k1 rfl (by decide) in_X7 5 (by decide) rfl q533 rfl dX7_is_9 ?_
    refine lv_iload_n hx hb dX7_is_12 rfl (lv_at hl 2 rfl) ?_
    refine lv_icmp_ne (tgt := 20) hx hb dX7_is_13 (by decide) (fun hc => ?_) (fun hc => ?_)
    · replace hF := (if_neg hc).symm.trans hF
      refine lv_iconst (v := 0) hx hb dX7_is_20 (by decide) ?_
      replace hF := Option.some.inj hF
      subst hF
      exact cl_ri S V hr hlocks rfl dX7_is_21
    · replace hF := (if_pos hc).symm.trans hF
      refine lv_iconst (v := 1) hx hb dX7_is_16 (by decide) ?_
      refine lv_goto (tgt := 21) hx hb dX7_is_17 (by decide) ?_
      replace hF := Option.some.inj hF
      subst hF
      exact cl_ri S V hr hlocks rfl dX7_is_21
theorem cd_X7_must : yX7_must.cls ≠ "java/lang/invoke/MethodHandle" ∧ yX7_must.cls ≠ "java/lang/invoke/VarHandle" ∧ (parseMethodDescriptor yX7_must.desc).map (fun d => d.parameters.length) = some 2 := by decide +kernel
set_option maxHeartbeats 4000000 in
set_option maxRecDepth 100000 in
theorem cm_X7_must (l : Launch) (hlt : l.stackTraces = false) (D : va_G) (dA : Nat → ClassId) (ad0 : Nat → Nat) (A : Nat → Prop) (a0 : Nat) (o0 : Nat) (p0 : Bool) (p1 : Int32) (σ0 : cl_S) (z : Unit ⊕ Nat) (σ' : cl_S) (e0 : cl_at ad0 σ0 a0 o0) (hF : cl_X7_must o0 σ0 p0 p1 = some (z, σ')) : cx_Cv l yX7_must cX7_must 3 ({ frames := 4, cells := 1, slots := 8, locals := 90 }) D dA ad0 A [.ref a0, .int (dx_bI p0), .int p1] σ0 z σ' := by
  refine cx_in RX7 rfl (by decide) (Nat.le_of_ble_eq_true rfl) ?_
  intro p e s m below meth c ls S hr hlocks hini htab hv hl
  have hx := S.1
  have hb := S.2.1
  have hown := S.2.2.2.1
  have hts := S.2.2.2.2
  obtain ⟨hN, hK, hP, hD, hA, hZ⟩ := hv
  have V : cl_V D dA (ad0, cl_n σ0) ad0 A s.heap σ0 s s.heap [] := ⟨hN, hK, hP, hD, va_S.rf, hA, hZ, fun _ _ => rfl, Nat.le_refl _⟩
  obtain ⟨ad, V, e0⟩ : ∃ ad, cl_V D dA (ad0, cl_n σ0) ad A s.heap σ0 s s.heap [] ∧ cl_at ad σ0 a0 o0 := ⟨ad0, V, e0⟩
  replace hl : lv_has ls 3 [(0, .ref a0), (1, .int (dx_bI p0)), (2, .int p1)] := hl
  unfold cl_X7_must at hF
  refine lv_iload_n hx hb dX7_must_0 rfl (lv_at hl 1 rfl) ?_
  refine lv_if_ne (tgt := 17) hx hb dX7_must_1 (by decide) (fun hc => ?_) (fun hc => ?_)
  · replace hF := dx_ib_t (dx_bI_n hc) hF
    refine W.widen (k := 1) (n := 8) (by first | omega | (dsimp only; omega)) (by first | omega | (dsimp only; omega)) ?_
    obtain ⟨hF1, hF2⟩ := dx_r2 hF
    subst hF1
    subst hF2
    exact cx_rv S V hr hlocks dX7_must_17
  · replace hF := dx_ib_f (dx_bI_0 hc) hF
    refine cl_new S V rfl (by decide) in_X8 tyX8 tyX8_ok cl_dfX8 q577 q578 q95 (Nat.le_of_ble_eq_true rfl) (Nat.le_of_ble_eq_true rfl) dX7_must_4 (fun bb1 ad _ hag ee1 V => ?_)
    replace e0 := cl_at.nw 8 0 e0 hag
    have k1 : cl_k (cl_nw σ0 8 0) (cl_n σ0 + 1) = 8 := cl_k_nw
    refine lv_dup hx hb dX7_must_7 rfl ?_
    refine lv_iload_n hx hb dX7_must_8 rfl (lv_at hl 2 rfl) ?_
    refine lv_aload_n hx hb dX7_must_9 rfl (lv_at hl 0 rfl) ?_
    obtain ⟨hg, hF⟩ := dx_gd_some hF
    have k2 := of_decide_eq_true hg
    refine cl_gi S V e0 k2 rfl (by decide) in_X7 4 (by decide) rfl q532 rfl dX7_must_10 ?_
    obtain ⟨σ3, h3c, hF⟩ := dx_b1_some hF
    refine cl_cv (va_runI (As := [.int p1, .int (cl_i (cl_nw σ0 8 0) o0 4)]) S (cm_X8_init l D dA _ A bb1 (cl_n σ0 + 1) p1 (cl_i (cl_nw σ0 8 0) o0 4) (cl_nw σ0 8 0) _ ee1 h3c) (cwI 2 hts (lw_meth q588) rfl rfl rfl (hts _ q95) (hts _ q586) (hts _ q587) rfl cd_X8_init ⟨Nat.le_of_ble_eq_true rfl, Nat.le_of_ble_eq_true rfl⟩) (cl_preS V [.ref bb1, .int p1, .int (cl_i (cl_nw σ0 8 0) o0 4)]) rfl rfl hl.1 rfl (lv_room (Nat.le_of_ble_eq_true rfl)) dX7_must_13 ⟨Nat.le_of_ble_eq_true rfl, Nat.le_of_ble_eq_true rfl⟩) V (fun ad _ _ hag hle V => ?_)
    replace ee1 := ee1.mv hag hle
    replace e0 := e0.mv hag hle
    obtain ⟨hg, hF⟩ := dx_gd_some hF
    have k4 := of_decide_eq_true hg
    obtain ⟨ce, hce, hcv, hcl⟩ := cl_recvF V ee1 k4
    rw [← cx_en_F (x := 10 + (cl_n σ0 + 1)) (Nat.le_add_right _ _)] at hcl
    refine vx_athrow hx hb dX7_must_16 ?_
    obtain ⟨hF1, hF2⟩ := dx_r2 hF
    subst hF1
    subst hF2
    exact cx_out V htab hlocks (fun _ => by rw [Nat.add_sub_cancel_left]; exact ee1) hce hcv hcl (by first | omega | (dsimp only; omega)) (by first | omega | (dsimp only; omega))
theorem cd_X7_figure : yX7_figure.cls ≠ "java/lang/invoke/MethodHandle" ∧ yX7_figure.cls ≠ "java/lang/invoke/VarHandle" ∧ (parseMethodDescriptor yX7_figure.desc).map (fun d => d.parameters.length) = some 2 := by decide +kernel
set_option maxHeartbeats 4000000 in
set_option maxRecDepth 100000 in
theorem cm_X7_figure (l : Launch) (hlt : l.stackTraces = false) (D : va_G) (dA : Nat → ClassId) (ad0 : Nat → Nat) (A : Nat → Prop) (a0 : Nat) (o0 : Nat) (p0 : Int32) (p1 : Int32) (σ0 : cl_S) (z : Int32 ⊕ Nat) (σ' : cl_S) (e0 : cl_at ad0 σ0 a0 o0) (hF : cl_X7_figure o0 σ0 p0 p1 = some (z, σ')) : cx_Ci l yX7_figure cX7_figure 4 .int ({ frames := 5, cells := 2, slots := 16, locals := 112 }) D dA ad0 A [.ref a0, .int p0, .int p1] σ0 z σ' := by
  refine cx_in RX7 rfl (by decide) (Nat.le_of_ble_eq_true rfl) ?_
  intro p e s m below meth c ls S hr hlocks hini htab hv hl
  have hx := S.1
  have hb := S.2.1
  have hown := S.2.2.2.1
  have hts := S.2.2.2.2
  obtain ⟨hN, hK, hP, hD, hA, hZ⟩ := hv
  have V : cl_V D dA (ad0, cl_n σ0) ad0 A s.heap σ0 s s.heap [] := ⟨hN, hK, hP, hD, va_S.rf, hA, hZ, fun _ _ => rfl, Nat.le_refl _⟩
  obtain ⟨ad, V, e0⟩ : ∃ ad, cl_V D dA (ad0, cl_n σ0) ad A s.heap σ0 s s.heap [] ∧ cl_at ad σ0 a0 o0 := ⟨ad0, V, e0⟩
  replace hl : lv_has ls 4 [(0, .ref a0), (1, .int p0), (2, .int p1)] := hl
  unfold cl_X7_figure at hF
  have hJ14 : ∀ (σ : cl_S) (v1 : Int32) (v2 : Int32) (t1 : Bool) (ad : Nat → Nat) (H : Heap) (locs : List Loc) (ls : Array Slot), cl_X7_figure_J14 o0 σ v1 v2 t1 = some (z, σ') → cl_at ad σ a0 o0 → cl_at ad σ a0 o0 → cl_V D dA (ad0, cl_n σ0) ad A s.heap σ s H locs → lv_has ls 4 [(0, .ref a0), (1, .int v1), (2, .int v2)] → W p l e ({ frames := 5, cells := 2, slots := 16, locals := 112 }) s m ([.ref a0, .int p0, .int p1] : List Value).toArray below meth c H locs 0 0 (vx_MQ below (cx_Qi D dA ad0 A σ0 σ' z) (cx_X D dA ad0 A σ0 σ' z) ([.ref a0, .int p0, .int p1] : List Value).toArray s 2 16 A) (F0 m 14 ls [.int (dx_bI t1), .ref a0]) := by
    intro σ v1 v2 t1 ad H locs ls hF e0 e0 V hl
    unfold cl_X7_figure_J14 at hF
    refine lv_iconst (v := 1) hx hb dX7_figure_14 (by decide) ?_
    obtain ⟨hg, hF⟩ := dx_gd_some hF
    have k3 := of_decide_eq_true hg
    obtain ⟨z2, σ2, h2c, hF⟩ := dx_bx_some hF
    refine cx_cv (vx_runV (As := [.int (dx_bI t1), .int (1 : Int32)]) S (cm_X7_must l hlt D dA _ A a0 o0 t1 (1 : Int32) σ _ _ e0 h2c) (cwV 2 hts (lw_V q573 q575 qs10 q94 q576) rfl rfl rfl ⟨rfl, cd_X7_must⟩ ⟨Nat.le_of_ble_eq_true rfl, Nat.le_of_ble_eq_true rfl⟩) (cl_preV V [.int (dx_bI t1), .int (1 : Int32)] e0 k3 rfl (by decide)) rfl rfl hl.1 rfl (lv_room (Nat.le_of_ble_eq_true rfl)) dX7_figure_15 ⟨Nat.le_of_ble_eq_true rfl, Nat.le_of_ble_eq_true rfl⟩) V (fun x2 ce q9 ad _ _ hz hag hle hq9 V hce hcv hcl => ?_) (fun _ ad _ _ hz hag hle V => ?_)
    · subst hz
      replace hF := dx_xs_r hF
      replace e0 := e0.mv hag hle
      obtain ⟨hF1, hF2⟩ := dx_r2 hF
      subst hF1
      subst hF2
      exact cx_out V htab hlocks hq9 hce hcv hcl (by first | omega | (dsimp only; omega)) (by first | omega | (dsimp only; omega))
    · subst hz
      replace hF := dx_xs_l hF
      replace e0 := e0.mv hag hle
      refine lv_aload_n hx hb dX7_figure_18 rfl (lv_at hl 0 rfl) ?_
      refine lv_aload_n hx hb dX7_figure_19 rfl (lv_at hl 0 rfl) ?_
      obtain ⟨hg, hF⟩ := dx_gd_some hF
      have k4 := of_decide_eq_true hg
      refine cl_gi S V e0 k4 rfl (by decide) in_X7 5 (by decide) rfl q533 rfl dX7_figure_20 ?_
      refine lv_i2l hx hb dX7_figure_23 rfl ?_
      refine lv_iload_n hx hb dX7_figure_24 rfl (lv_at hl 1 rfl) ?_
      refine lv_i2l hx hb dX7_figure_25 rfl ?_
      refine lv_iload_n hx hb dX7_figure_26 rfl (lv_at hl 2 rfl) ?_
      refine lv_i2l hx hb dX7_figure_27 rfl ?_
      obtain ⟨r5, h5c, hF⟩ := dx_b1_some hF
      refine dx_cPNi S [.long ((cl_i σ2 o0 5).toInt64), .long v1.toInt64, .long v2.toInt64] (cm_X0_isIn l ((cl_i σ2 o0 5).toInt64) v1.toInt64 v2.toInt64 _ h5c) ⟨va_cnB 3 hts (lw_meth q404) rfl rfl rfl (V.1.1 _ cn_q566) (hts _ q77) cd_X0_isIn ⟨Nat.le_of_ble_eq_true rfl, Nat.le_of_ble_eq_true rfl⟩, hts _ q403, trivial⟩ rfl rfl hl.1 (Nat.le_of_ble_eq_true rfl) dX7_figure_28 ⟨Nat.le_of_ble_eq_true rfl, Nat.le_of_ble_eq_true rfl⟩ ?_
      refine lv_iconst (v := 2) hx hb dX7_figure_31 (by decide) ?_
      obtain ⟨z6, σ6, h6c, hF⟩ := dx_bx_some hF
      refine cx_cv (vx_runV (As := [.int (dx_bI r5), .int (2 : Int32)]) S (cm_X7_must l hlt D dA _ A a0 o0 r5 (2 : Int32) σ2 _ _ e0 h6c) (cwV 2 hts (lw_V q573 q575 qs10 q94 q576) rfl rfl rfl ⟨rfl, cd_X7_must⟩ ⟨Nat.le_of_ble_eq_true rfl, Nat.le_of_ble_eq_true rfl⟩) (cl_preV V [.int (dx_bI r5), .int (2 : Int32)] e0 k4 rfl (by decide)) rfl rfl hl.1 rfl (lv_room (Nat.le_of_ble_eq_true rfl)) dX7_figure_32 ⟨Nat.le_of_ble_eq_true rfl, Nat.le_of_ble_eq_true rfl⟩) V (fun x6 ce q9 ad _ _ hz hag hle hq9 V hce hcv hcl => ?_) (fun _ ad _ _ hz hag hle V => ?_)
      · subst hz
        replace hF := dx_xs_r hF
        replace e0 := e0.mv hag hle
        obtain ⟨hF1, hF2⟩ := dx_r2 hF
        subst hF1
        subst hF2
        exact cx_out V htab hlocks hq9 hce hcv hcl (by first | omega | (dsimp only; omega)) (by first | omega | (dsimp only; omega))
      · subst hz
        replace hF := dx_xs_l hF
        replace e0 := e0.mv hag hle
        refine lv_aload_n hx hb dX7_figure_35 rfl (lv_at hl 0 rfl) ?_
        obtain ⟨hg, hF⟩ := dx_gd_some hF
        have k7 := of_decide_eq_true hg
        refine cl_gi S V e0 k7 rfl (by decide) in_X7 5 (by decide) rfl q533 rfl dX7_figure_36 ?_
        refine lv_istore_n (lv' := [(3, .int (cl_i σ6 o0 5)), (0, .ref a0), (1, .int v1), (2, .int v2)]) hx hb dX7_figure_39 rfl hl (by decide) rfl (fun ls hl => ?_)
        refine lv_aload_n hx hb dX7_figure_40 rfl (lv_at hl 1 rfl) ?_
        obtain ⟨σ8, h8c, hF⟩ := dx_b1_some hF
        refine cl_cv (va_runV (As := []) S (cm_X7_next l D dA _ A a0 o0  σ6 _ e0 h8c) (cwV 0 hts (lw_V q555 q557 qs7 q94 q558) rfl rfl rfl ⟨rfl, cd_X7_next⟩ ⟨Nat.le_of_ble_eq_true rfl, Nat.le_of_ble_eq_true rfl⟩) (cl_preV V [] e0 k7 rfl (by decide)) rfl rfl hl.1 rfl (lv_room (Nat.le_of_ble_eq_true rfl)) dX7_figure_41 ⟨Nat.le_of_ble_eq_true rfl, Nat.le_of_ble_eq_true rfl⟩) V (fun ad _ _ hag hle V => ?_)
        replace e0 := e0.mv hag hle
        refine lv_iload_n hx hb dX7_figure_44 rfl (lv_at hl 0 rfl) ?_
        refine W.widen (k := 2) (n := 16) (by first | omega | (dsimp only; omega)) (by first | omega | (dsimp only; omega)) ?_
        obtain ⟨hF1, hF2⟩ := dx_r2 hF
        subst hF1
        subst hF2
        exact cx_ri S V hr hlocks rfl dX7_figure_45
  refine lv_aload_n hx hb dX7_figure_0 rfl (lv_at hl 0 rfl) ?_
  refine lv_aload_n hx hb dX7_figure_1 rfl (lv_at hl 0 rfl) ?_
  obtain ⟨hg, hF⟩ := dx_gd_some hF
  have k1 := of_decide_eq_true hg
  refine cl_gi S V e0 k1 rfl (by decide) in_X7 3 (by decide) rfl q531 rfl dX7_figure_2 ?_
  refine lv_iconst (v := 2) hx hb dX7_figure_5 (by decide) ?_
  refine lv_icmp_ne (tgt := 13) hx hb dX7_figure_6 (by decide) (fun hc => ?_) (fun hc => ?_)
  · replace hF := (if_neg hc).symm.trans hF
    refine lv_iconst (v := 0) hx hb dX7_figure_13 (by decide) ?_
    refine W.widen (k := 0) (n := 0) (by first | omega | (dsimp only; omega)) (by first | omega | (dsimp only; omega)) ?_
    exact hJ14 σ0 p0 p1 false _ _ _ _ hF e0 e0 V (lv_sub hl [0, 1, 2] rfl)
  · replace hF := (if_pos hc).symm.trans hF
    refine lv_iconst (v := 1) hx hb dX7_figure_9 (by decide) ?_
    refine lv_goto (tgt := 14) hx hb dX7_figure_10 (by decide) ?_
    refine W.widen (k := 0) (n := 0) (by first | omega | (dsimp only; omega)) (by first | omega | (dsimp only; omega)) ?_
    exact hJ14 σ0 p0 p1 true _ _ _ _ hF e0 e0 V (lv_sub hl [0, 1, 2] rfl)
theorem cd_X7_sign : yX7_sign.cls ≠ "java/lang/invoke/MethodHandle" ∧ yX7_sign.cls ≠ "java/lang/invoke/VarHandle" ∧ (parseMethodDescriptor yX7_sign.desc).map (fun d => d.parameters.length) = some 1 := by decide +kernel
set_option maxHeartbeats 4000000 in
set_option maxRecDepth 100000 in
theorem cm_X7_sign (l : Launch) (hlt : l.stackTraces = false) (D : va_G) (dA : Nat → ClassId) (ad0 : Nat → Nat) (A : Nat → Prop) (a0 : Nat) (o0 : Nat) (p0 : Int32) (σ0 : cl_S) (z : Unit ⊕ Nat) (σ' : cl_S) (e0 : cl_at ad0 σ0 a0 o0) (hF : cl_X7_sign o0 σ0 p0 = some (z, σ')) : cx_Cv l yX7_sign cX7_sign 2 ({ frames := 5, cells := 1, slots := 8, locals := 112 }) D dA ad0 A [.ref a0, .int p0] σ0 z σ' := by
  refine cx_in RX7 rfl (by decide) (Nat.le_of_ble_eq_true rfl) ?_
  intro p e s m below meth c ls S hr hlocks hini htab hv hl
  have hx := S.1
  have hb := S.2.1
  have hown := S.2.2.2.1
  have hts := S.2.2.2.2
  obtain ⟨hN, hK, hP, hD, hA, hZ⟩ := hv
  have V : cl_V D dA (ad0, cl_n σ0) ad0 A s.heap σ0 s s.heap [] := ⟨hN, hK, hP, hD, va_S.rf, hA, hZ, fun _ _ => rfl, Nat.le_refl _⟩
  obtain ⟨ad, V, e0⟩ : ∃ ad, cl_V D dA (ad0, cl_n σ0) ad A s.heap σ0 s s.heap [] ∧ cl_at ad σ0 a0 o0 := ⟨ad0, V, e0⟩
  replace hl : lv_has ls 2 [(0, .ref a0), (1, .int p0)] := hl
  unfold cl_X7_sign at hF
  refine lv_aload_n hx hb dX7_sign_0 rfl (lv_at hl 0 rfl) ?_
  refine lv_aload_n hx hb dX7_sign_1 rfl (lv_at hl 0 rfl) ?_
  refine lv_iconst (v := 3) hx hb dX7_sign_2 (by decide) ?_
  refine lv_iload_n hx hb dX7_sign_3 rfl (lv_at hl 1 rfl) ?_
  obtain ⟨hg, hF⟩ := dx_gd_some hF
  have k2 := of_decide_eq_true hg
  obtain ⟨r1, h1c, hF⟩ := dx_b1_some hF
  refine cl_ci (va_runV (As := [.int (3 : Int32), .int p0]) S (cm_X7_is l D dA _ A a0 o0 (3 : Int32) p0 σ0 _ e0 h1c) (cwV 2 hts (lw_V q569 q571 qs9 q94 q572) rfl rfl rfl ⟨rfl, cd_X7_is⟩ ⟨Nat.le_of_ble_eq_true rfl, Nat.le_of_ble_eq_true rfl⟩) (cl_preV V [.int (3 : Int32), .int p0] e0 k2 rfl (by decide)) rfl rfl hl.1 rfl (lv_room (Nat.le_of_ble_eq_true rfl)) dX7_sign_4 ⟨Nat.le_of_ble_eq_true rfl, Nat.le_of_ble_eq_true rfl⟩) V (fun ad _ _ hag hle V => ?_)
  replace e0 := e0.mv hag hle
  refine lv_iconst (v := 1) hx hb dX7_sign_7 (by decide) ?_
  obtain ⟨z3, σ3, h3c, hF⟩ := dx_bx_some hF
  refine cx_cv (vx_runV (As := [.int (dx_bI r1), .int (1 : Int32)]) S (cm_X7_must l hlt D dA _ A a0 o0 r1 (1 : Int32) σ0 _ _ e0 h3c) (cwV 2 hts (lw_V q573 q575 qs10 q94 q576) rfl rfl rfl ⟨rfl, cd_X7_must⟩ ⟨Nat.le_of_ble_eq_true rfl, Nat.le_of_ble_eq_true rfl⟩) (cl_preV V [.int (dx_bI r1), .int (1 : Int32)] e0 k2 rfl (by decide)) rfl rfl hl.1 rfl (lv_room (Nat.le_of_ble_eq_true rfl)) dX7_sign_8 ⟨Nat.le_of_ble_eq_true rfl, Nat.le_of_ble_eq_true rfl⟩) V (fun x3 ce q9 ad _ _ hz hag hle hq9 V hce hcv hcl => ?_) (fun _ ad _ _ hz hag hle V => ?_)
  · subst hz
    replace hF := dx_xs_r hF
    replace e0 := e0.mv hag hle
    obtain ⟨hF1, hF2⟩ := dx_r2 hF
    subst hF1
    subst hF2
    exact cx_out V htab hlocks hq9 hce hcv hcl (by first | omega | (dsimp only; omega)) (by first | omega | (dsimp only; omega))
  · subst hz
    replace hF := dx_xs_l hF
    replace e0 := e0.mv hag hle
    refine lv_aload_n hx hb dX7_sign_11 rfl (lv_at hl 0 rfl) ?_
    obtain ⟨hg, hF⟩ := dx_gd_some hF
    have k5 := of_decide_eq_true hg
    obtain ⟨σ4, h4c, hF⟩ := dx_b1_some hF
    refine cl_cv (va_runV (As := []) S (cm_X7_next l D dA _ A a0 o0  σ3 _ e0 h4c) (cwV 0 hts (lw_V q555 q557 qs7 q94 q558) rfl rfl rfl ⟨rfl, cd_X7_next⟩ ⟨Nat.le_of_ble_eq_true rfl, Nat.le_of_ble_eq_true rfl⟩) (cl_preV V [] e0 k5 rfl (by decide)) rfl rfl hl.1 rfl (lv_room (Nat.le_of_ble_eq_true rfl)) dX7_sign_12 ⟨Nat.le_of_ble_eq_true rfl, Nat.le_of_ble_eq_true rfl⟩) V (fun ad _ _ hag hle V => ?_)
    replace e0 := e0.mv hag hle
    refine W.widen (k := 1) (n := 8) (by first | omega | (dsimp only; omega)) (by first | omega | (dsimp only; omega)) ?_
    obtain ⟨hF1, hF2⟩ := dx_r2 hF
    subst hF1
    subst hF2
    exact cx_rv S V hr hlocks dX7_sign_15
theorem cd_X10_init : yX10_init.cls ≠ "java/lang/invoke/MethodHandle" ∧ yX10_init.cls ≠ "java/lang/invoke/VarHandle" ∧ (parseMethodDescriptor yX10_init.desc).map (fun d => d.parameters.length) = some 1 := by decide +kernel
set_option maxHeartbeats 4000000 in
set_option maxRecDepth 100000 in
theorem cm_X10_init (l : Launch) (D : va_G) (dA : Nat → ClassId) (ad0 : Nat → Nat) (A : Nat → Prop) (a0 : Nat) (o0 : Nat) (p0 : Int32) (σ0 : cl_S) (σ' : cl_S) (e0 : cl_at ad0 σ0 a0 o0) (hF : cl_X10_init o0 σ0 p0 = some σ') : cl_Cv l yX10_init cX10_init 2 ({ frames := 1, cells := 0, slots := 0, locals := 20 }) D dA ad0 A [.ref a0, .int p0] σ0 σ' := by
  refine cl_in RX10 rfl (by decide) (Nat.le_of_ble_eq_true rfl) ?_
  intro p e s m below meth c ls S hr hlocks hini hv hl
  have hx := S.1
  have hb := S.2.1
  have hown := S.2.2.2.1
  have hts := S.2.2.2.2
  obtain ⟨hN, hK, hP, hD, hA, hZ⟩ := hv
  have V : cl_V D dA (ad0, cl_n σ0) ad0 A s.heap σ0 s s.heap [] := ⟨hN, hK, hP, hD, va_S.rf, hA, hZ, fun _ _ => rfl, Nat.le_refl _⟩
  obtain ⟨ad, V, e0⟩ : ∃ ad, cl_V D dA (ad0, cl_n σ0) ad A s.heap σ0 s s.heap [] ∧ cl_at ad σ0 a0 o0 := ⟨ad0, V, e0⟩
  replace hl : lv_has ls 2 [(0, .ref a0), (1, .int p0)] := hl
  unfold cl_X10_init at hF
  refine lv_aload_n hx hb dX10_init_0 rfl (lv_at hl 0 rfl) ?_
  refine W.objInit hx hb hown (hts _ q936) (hts _ q123) (hts _ q124) rfl (by rw [S.2.2.1]; exact hl.1) rfl dX10_init_1 (Nat.le_of_ble_eq_true rfl) (Nat.le_of_ble_eq_true rfl) ?_
  refine lv_aload_n hx hb dX10_init_4 rfl (lv_at hl 0 rfl) ?_
  refine lv_iload_n hx hb dX10_init_5 rfl (lv_at hl 1 rfl) ?_
  obtain ⟨hg, hF⟩ := dx_gd_some hF
  have k1 := of_decide_eq_true hg
  refine cl_piP S V e0 k1 q937 hini dX10_init_6 (fun _ _ V => ?_)
  replace hF := Option.some.inj hF
  subst hF
  exact cl_rv S V hr hlocks dX10_init_9
theorem cd_X11_init : yX11_init.cls ≠ "java/lang/invoke/MethodHandle" ∧ yX11_init.cls ≠ "java/lang/invoke/VarHandle" ∧ (parseMethodDescriptor yX11_init.desc).map (fun d => d.parameters.length) = some 1 := by decide +kernel
set_option maxHeartbeats 4000000 in
set_option maxRecDepth 100000 in
theorem cm_X11_init (l : Launch) (D : va_G) (dA : Nat → ClassId) (ad0 : Nat → Nat) (A : Nat → Prop) (a0 : Nat) (o0 : Nat) (p0 : Int32) (σ0 : cl_S) (σ' : cl_S) (e0 : cl_at ad0 σ0 a0 o0) (hF : cl_X11_init o0 σ0 p0 = some σ') : cl_Cv l yX11_init cX11_init 2 ({ frames := 2, cells := 0, slots := 0, locals := 41 }) D dA ad0 A [.ref a0, .int p0] σ0 σ' := by
  refine cl_in RX11 rfl (by decide) (Nat.le_of_ble_eq_true rfl) ?_
  intro p e s m below meth c ls S hr hlocks hini hv hl
  have hx := S.1
  have hb := S.2.1
  have hown := S.2.2.2.1
  have hts := S.2.2.2.2
  obtain ⟨hN, hK, hP, hD, hA, hZ⟩ := hv
  have V : cl_V D dA (ad0, cl_n σ0) ad0 A s.heap σ0 s s.heap [] := ⟨hN, hK, hP, hD, va_S.rf, hA, hZ, fun _ _ => rfl, Nat.le_refl _⟩
  obtain ⟨ad, V, e0⟩ : ∃ ad, cl_V D dA (ad0, cl_n σ0) ad A s.heap σ0 s s.heap [] ∧ cl_at ad σ0 a0 o0 := ⟨ad0, V, e0⟩
  replace hl : lv_has ls 2 [(0, .ref a0), (1, .int p0)] := hl
  unfold cl_X11_init at hF
  refine lv_aload_n hx hb dX11_init_0 rfl (lv_at hl 0 rfl) ?_
  refine lv_iload_n hx hb dX11_init_1 rfl (lv_at hl 1 rfl) ?_
  obtain ⟨σ1, h1c, hF⟩ := dx_b1_some hF
  refine cl_cv (va_runI (As := [.int p0]) S (cm_X10_init l D dA _ A a0 o0 p0 σ0 _ e0 h1c) (cwI 1 hts (lw_meth q935) rfl rfl rfl (hts _ q105) (hts _ q933) (hts _ q934) rfl cd_X10_init ⟨Nat.le_of_ble_eq_true rfl, Nat.le_of_ble_eq_true rfl⟩) (cl_preS V [.ref a0, .int p0]) rfl rfl hl.1 rfl (lv_room (Nat.le_of_ble_eq_true rfl)) dX11_init_2 ⟨Nat.le_of_ble_eq_true rfl, Nat.le_of_ble_eq_true rfl⟩) V (fun ad _ _ hag hle V => ?_)
  replace e0 := e0.mv hag hle
  replace hF := Option.some.inj hF
  subst hF
  exact cl_rv S V hr hlocks dX11_init_5
theorem cd_X12_init : yX12_init.cls ≠ "java/lang/invoke/MethodHandle" ∧ yX12_init.cls ≠ "java/lang/invoke/VarHandle" ∧ (parseMethodDescriptor yX12_init.desc).map (fun d => d.parameters.length) = some 1 := by decide +kernel
set_option maxHeartbeats 4000000 in
set_option maxRecDepth 100000 in
theorem cm_X12_init (l : Launch) (D : va_G) (dA : Nat → ClassId) (ad0 : Nat → Nat) (A : Nat → Prop) (a0 : Nat) (o0 : Nat) (p0 : Int32) (σ0 : cl_S) (σ' : cl_S) (e0 : cl_at ad0 σ0 a0 o0) (hF : cl_X12_init o0 σ0 p0 = some σ') : cl_Cv l yX12_init cX12_init 2 ({ frames := 3, cells := 0, slots := 0, locals := 62 }) D dA ad0 A [.ref a0, .int p0] σ0 σ' := by
  refine cl_in RX12 rfl (by decide) (Nat.le_of_ble_eq_true rfl) ?_
  intro p e s m below meth c ls S hr hlocks hini hv hl
  have hx := S.1
  have hb := S.2.1
  have hown := S.2.2.2.1
  have hts := S.2.2.2.2
  obtain ⟨hN, hK, hP, hD, hA, hZ⟩ := hv
  have V : cl_V D dA (ad0, cl_n σ0) ad0 A s.heap σ0 s s.heap [] := ⟨hN, hK, hP, hD, va_S.rf, hA, hZ, fun _ _ => rfl, Nat.le_refl _⟩
  obtain ⟨ad, V, e0⟩ : ∃ ad, cl_V D dA (ad0, cl_n σ0) ad A s.heap σ0 s s.heap [] ∧ cl_at ad σ0 a0 o0 := ⟨ad0, V, e0⟩
  replace hl : lv_has ls 2 [(0, .ref a0), (1, .int p0)] := hl
  unfold cl_X12_init at hF
  refine lv_aload_n hx hb dX12_init_0 rfl (lv_at hl 0 rfl) ?_
  refine lv_iload_n hx hb dX12_init_1 rfl (lv_at hl 1 rfl) ?_
  obtain ⟨σ1, h1c, hF⟩ := dx_b1_some hF
  refine cl_cv (va_runI (As := [.int p0]) S (cm_X11_init l D dA _ A a0 o0 p0 σ0 _ e0 h1c) (cwI 1 hts (lw_meth q932) rfl rfl rfl (hts _ q106) (hts _ q946) (hts _ q931) rfl cd_X11_init ⟨Nat.le_of_ble_eq_true rfl, Nat.le_of_ble_eq_true rfl⟩) (cl_preS V [.ref a0, .int p0]) rfl rfl hl.1 rfl (lv_room (Nat.le_of_ble_eq_true rfl)) dX12_init_2 ⟨Nat.le_of_ble_eq_true rfl, Nat.le_of_ble_eq_true rfl⟩) V (fun ad _ _ hag hle V => ?_)
  replace e0 := e0.mv hag hle
  replace hF := Option.some.inj hF
  subst hF
  exact cl_rv S V hr hlocks dX12_init_5
theorem cd_X13_init : yX13_init.cls ≠ "java/lang/invoke/MethodHandle" ∧ yX13_init.cls ≠ "java/lang/invoke/VarHandle" ∧ (parseMethodDescriptor yX13_init.desc).map (fun d => d.parameters.length) = some 1 := by decide +kernel
set_option maxHeartbeats 4000000 in
set_option maxRecDepth 100000 in
theorem cm_X13_init (l : Launch) (D : va_G) (dA : Nat → ClassId) (ad0 : Nat → Nat) (A : Nat → Prop) (a0 : Nat) (o0 : Nat) (p0 : Int32) (σ0 : cl_S) (σ' : cl_S) (e0 : cl_at ad0 σ0 a0 o0) (hF : cl_X13_init o0 σ0 p0 = some σ') : cl_Cv l yX13_init cX13_init 2 ({ frames := 3, cells := 0, slots := 0, locals := 62 }) D dA ad0 A [.ref a0, .int p0] σ0 σ' := by
  refine cl_in RX13 rfl (by decide) (Nat.le_of_ble_eq_true rfl) ?_
  intro p e s m below meth c ls S hr hlocks hini hv hl
  have hx := S.1
  have hb := S.2.1
  have hown := S.2.2.2.1
  have hts := S.2.2.2.2
  obtain ⟨hN, hK, hP, hD, hA, hZ⟩ := hv
  have V : cl_V D dA (ad0, cl_n σ0) ad0 A s.heap σ0 s s.heap [] := ⟨hN, hK, hP, hD, va_S.rf, hA, hZ, fun _ _ => rfl, Nat.le_refl _⟩
  obtain ⟨ad, V, e0⟩ : ∃ ad, cl_V D dA (ad0, cl_n σ0) ad A s.heap σ0 s s.heap [] ∧ cl_at ad σ0 a0 o0 := ⟨ad0, V, e0⟩
  replace hl : lv_has ls 2 [(0, .ref a0), (1, .int p0)] := hl
  unfold cl_X13_init at hF
  refine lv_aload_n hx hb dX13_init_0 rfl (lv_at hl 0 rfl) ?_
  refine lv_iload_n hx hb dX13_init_1 rfl (lv_at hl 1 rfl) ?_
  obtain ⟨σ1, h1c, hF⟩ := dx_b1_some hF
  refine cl_cv (va_runI (As := [.int p0]) S (cm_X11_init l D dA _ A a0 o0 p0 σ0 _ e0 h1c) (cwI 1 hts (lw_meth q932) rfl rfl rfl (hts _ q106) (hts _ q954) (hts _ q931) rfl cd_X11_init ⟨Nat.le_of_ble_eq_true rfl, Nat.le_of_ble_eq_true rfl⟩) (cl_preS V [.ref a0, .int p0]) rfl rfl hl.1 rfl (lv_room (Nat.le_of_ble_eq_true rfl)) dX13_init_2 ⟨Nat.le_of_ble_eq_true rfl, Nat.le_of_ble_eq_true rfl⟩) V (fun ad _ _ hag hle V => ?_)
  replace e0 := e0.mv hag hle
  replace hF := Option.some.inj hF
  subst hF
  exact cl_rv S V hr hlocks dX13_init_5
theorem cd_X14_init : yX14_init.cls ≠ "java/lang/invoke/MethodHandle" ∧ yX14_init.cls ≠ "java/lang/invoke/VarHandle" ∧ (parseMethodDescriptor yX14_init.desc).map (fun d => d.parameters.length) = some 1 := by decide +kernel
set_option maxHeartbeats 4000000 in
set_option maxRecDepth 100000 in
theorem cm_X14_init (l : Launch) (D : va_G) (dA : Nat → ClassId) (ad0 : Nat → Nat) (A : Nat → Prop) (a0 : Nat) (o0 : Nat) (p0 : Int32) (σ0 : cl_S) (σ' : cl_S) (e0 : cl_at ad0 σ0 a0 o0) (hF : cl_X14_init o0 σ0 p0 = some σ') : cl_Cv l yX14_init cX14_init 2 ({ frames := 2, cells := 0, slots := 0, locals := 41 }) D dA ad0 A [.ref a0, .int p0] σ0 σ' := by
  refine cl_in RX14 rfl (by decide) (Nat.le_of_ble_eq_true rfl) ?_
  intro p e s m below meth c ls S hr hlocks hini hv hl
  have hx := S.1
  have hb := S.2.1
  have hown := S.2.2.2.1
  have hts := S.2.2.2.2
  obtain ⟨hN, hK, hP, hD, hA, hZ⟩ := hv
  have V : cl_V D dA (ad0, cl_n σ0) ad0 A s.heap σ0 s s.heap [] := ⟨hN, hK, hP, hD, va_S.rf, hA, hZ, fun _ _ => rfl, Nat.le_refl _⟩
  obtain ⟨ad, V, e0⟩ : ∃ ad, cl_V D dA (ad0, cl_n σ0) ad A s.heap σ0 s s.heap [] ∧ cl_at ad σ0 a0 o0 := ⟨ad0, V, e0⟩
  replace hl : lv_has ls 2 [(0, .ref a0), (1, .int p0)] := hl
  unfold cl_X14_init at hF
  refine lv_aload_n hx hb dX14_init_0 rfl (lv_at hl 0 rfl) ?_
  refine lv_iload_n hx hb dX14_init_1 rfl (lv_at hl 1 rfl) ?_
  obtain ⟨σ1, h1c, hF⟩ := dx_b1_some hF
  refine cl_cv (va_runI (As := [.int p0]) S (cm_X10_init l D dA _ A a0 o0 p0 σ0 _ e0 h1c) (cwI 1 hts (lw_meth q935) rfl rfl rfl (hts _ q105) (hts _ q962) (hts _ q934) rfl cd_X10_init ⟨Nat.le_of_ble_eq_true rfl, Nat.le_of_ble_eq_true rfl⟩) (cl_preS V [.ref a0, .int p0]) rfl rfl hl.1 rfl (lv_room (Nat.le_of_ble_eq_true rfl)) dX14_init_2 ⟨Nat.le_of_ble_eq_true rfl, Nat.le_of_ble_eq_true rfl⟩) V (fun ad _ _ hag hle V => ?_)
  replace e0 := e0.mv hag hle
  replace hF := Option.some.inj hF
  subst hF
  exact cl_rv S V hr hlocks dX14_init_5
theorem cd_X15_init : yX15_init.cls ≠ "java/lang/invoke/MethodHandle" ∧ yX15_init.cls ≠ "java/lang/invoke/VarHandle" ∧ (parseMethodDescriptor yX15_init.desc).map (fun d => d.parameters.length) = some 1 := by decide +kernel
set_option maxHeartbeats 4000000 in
set_option maxRecDepth 100000 in
theorem cm_X15_init (l : Launch) (D : va_G) (dA : Nat → ClassId) (ad0 : Nat → Nat) (A : Nat → Prop) (a0 : Nat) (o0 : Nat) (p0 : Int32) (σ0 : cl_S) (σ' : cl_S) (e0 : cl_at ad0 σ0 a0 o0) (hF : cl_X15_init o0 σ0 p0 = some σ') : cl_Cv l yX15_init cX15_init 2 ({ frames := 3, cells := 0, slots := 0, locals := 62 }) D dA ad0 A [.ref a0, .int p0] σ0 σ' := by
  refine cl_in RX15 rfl (by decide) (Nat.le_of_ble_eq_true rfl) ?_
  intro p e s m below meth c ls S hr hlocks hini hv hl
  have hx := S.1
  have hb := S.2.1
  have hown := S.2.2.2.1
  have hts := S.2.2.2.2
  obtain ⟨hN, hK, hP, hD, hA, hZ⟩ := hv
  have V : cl_V D dA (ad0, cl_n σ0) ad0 A s.heap σ0 s s.heap [] := ⟨hN, hK, hP, hD, va_S.rf, hA, hZ, fun _ _ => rfl, Nat.le_refl _⟩
  obtain ⟨ad, V, e0⟩ : ∃ ad, cl_V D dA (ad0, cl_n σ0) ad A s.heap σ0 s s.heap [] ∧ cl_at ad σ0 a0 o0 := ⟨ad0, V, e0⟩
  replace hl : lv_has ls 2 [(0, .ref a0), (1, .int p0)] := hl
  unfold cl_X15_init at hF
  refine lv_aload_n hx hb dX15_init_0 rfl (lv_at hl 0 rfl) ?_
  refine lv_iload_n hx hb dX15_init_1 rfl (lv_at hl 1 rfl) ?_
  obtain ⟨σ1, h1c, hF⟩ := dx_b1_some hF
  refine cl_cv (va_runI (As := [.int p0]) S (cm_X14_init l D dA _ A a0 o0 p0 σ0 _ e0 h1c) (cwI 1 hts (lw_meth q961) rfl rfl rfl (hts _ q109) (hts _ q970) (hts _ q960) rfl cd_X14_init ⟨Nat.le_of_ble_eq_true rfl, Nat.le_of_ble_eq_true rfl⟩) (cl_preS V [.ref a0, .int p0]) rfl rfl hl.1 rfl (lv_room (Nat.le_of_ble_eq_true rfl)) dX15_init_2 ⟨Nat.le_of_ble_eq_true rfl, Nat.le_of_ble_eq_true rfl⟩) V (fun ad _ _ hag hle V => ?_)
  replace e0 := e0.mv hag hle
  replace hF := Option.some.inj hF
  subst hF
  exact cl_rv S V hr hlocks dX15_init_5
theorem cd_X0_personBy : yX0_personBy.cls ≠ "java/lang/invoke/MethodHandle" ∧ yX0_personBy.cls ≠ "java/lang/invoke/VarHandle" ∧ (parseMethodDescriptor yX0_personBy.desc).map (fun d => d.parameters.length) = some 2 := by decide +kernel
set_option maxHeartbeats 4000000 in
set_option maxRecDepth 100000 in
theorem cm_X0_personBy (l : Launch) (D : va_G) (dA : Nat → ClassId) (ad0 : Nat → Nat) (A : Nat → Prop)   (p0 : Int32) (p1 : Int32) (σ0 : cl_S) (r : Nat) (σ' : cl_S)  (hF : cl_X0_personBy σ0 p0 p1 = some (r, σ')) : cl_Cr l yX0_personBy cX0_personBy 2 (.object "DatedContacts$Person") ({ frames := 4, cells := 1, slots := 1, locals := 83 }) D dA ad0 A [.int p0, .int p1] σ0 r σ' := by
  refine cl_in RX0 rfl (by decide) (Nat.le_of_ble_eq_true rfl) ?_
  intro p e s m below meth c ls S hr hlocks hini hv hl
  have hx := S.1
  have hb := S.2.1
  have hown := S.2.2.2.1
  have hts := S.2.2.2.2
  obtain ⟨hN, hK, hP, hD, hA, hZ⟩ := hv
  have V : cl_V D dA (ad0, cl_n σ0) ad0 A s.heap σ0 s s.heap [] := ⟨hN, hK, hP, hD, va_S.rf, hA, hZ, fun _ _ => rfl, Nat.le_refl _⟩
  obtain ⟨ad, V⟩ : ∃ ad, cl_V D dA (ad0, cl_n σ0) ad A s.heap σ0 s s.heap [] := ⟨ad0, V⟩
  replace hl : lv_has ls 2 [(0, .int p0), (1, .int p1)] := hl
  unfold cl_X0_personBy at hF
  refine lv_iload_n hx hb dX0_personBy_0 rfl (lv_at hl 0 rfl) ?_
  by_cases hs1 : p0 = (1 : Int32)
  · replace hF := (if_pos hs1).symm.trans hF
    refine lv_tableIn (tgt := 32) hx hb dX0_personBy_1 (by rw [hs1]; decide) (by rw [hs1]; decide) (by rw [hs1]; rfl) (by decide) ?_
    refine cl_new S V rfl (by decide) in_X11 tyX11 tyX11_ok cl_dfX11 q928 q929 q106 (Nat.le_of_ble_eq_true rfl) (Nat.le_of_ble_eq_true rfl) dX0_personBy_32 (fun bb3 ad _ hag ee3 V => ?_)
    have k3 : cl_k (cl_nw σ0 9 0) (cl_n σ0 + 1) = 9 := cl_k_nw
    refine lv_dup hx hb dX0_personBy_35 rfl ?_
    refine lv_iload_n hx hb dX0_personBy_36 rfl (lv_at hl 1 rfl) ?_
    obtain ⟨σ4, h4c, hF⟩ := dx_b1_some hF
    refine cl_cv (va_runI (As := [.int p1]) S (cm_X11_init l D dA _ A bb3 (cl_n σ0 + 1) p1 (cl_nw σ0 9 0) _ ee3 h4c) (cwI 1 hts (lw_meth q932) rfl rfl rfl (hts _ q106) (hts _ q930) (hts _ q931) rfl cd_X11_init ⟨Nat.le_of_ble_eq_true rfl, Nat.le_of_ble_eq_true rfl⟩) (cl_preS V [.ref bb3, .int p1]) rfl rfl hl.1 rfl (lv_room (Nat.le_of_ble_eq_true rfl)) dX0_personBy_37 ⟨Nat.le_of_ble_eq_true rfl, Nat.le_of_ble_eq_true rfl⟩) V (fun ad _ _ hag hle V => ?_)
    replace ee3 := ee3.mv hag hle
    refine lv_goto (tgt := 84) hx hb dX0_personBy_40 (by decide) ?_
    refine W.widen (k := 1) (n := 1) (by first | omega | (dsimp only; omega)) (by first | omega | (dsimp only; omega)) ?_
    obtain ⟨hF1, hF2⟩ := dx_r2 hF
    subst hF1
    subst hF2
    exact cl_rr S V hr (Or.inl ⟨_, rfl⟩) hlocks ee3 dX0_personBy_84
  replace hF := (if_neg hs1).symm.trans hF
  by_cases hs2 : p0 = (2 : Int32)
  · replace hF := (if_pos hs2).symm.trans hF
    refine lv_tableIn (tgt := 43) hx hb dX0_personBy_1 (by rw [hs2]; decide) (by rw [hs2]; decide) (by rw [hs2]; rfl) (by decide) ?_
    refine cl_new S V rfl (by decide) in_X12 tyX12 tyX12_ok cl_dfX12 q941 q942 q107 (Nat.le_of_ble_eq_true rfl) (Nat.le_of_ble_eq_true rfl) dX0_personBy_43 (fun bb5 ad _ hag ee5 V => ?_)
    have k5 : cl_k (cl_nw σ0 10 0) (cl_n σ0 + 1) = 10 := cl_k_nw
    refine lv_dup hx hb dX0_personBy_46 rfl ?_
    refine lv_iload_n hx hb dX0_personBy_47 rfl (lv_at hl 1 rfl) ?_
    obtain ⟨σ6, h6c, hF⟩ := dx_b1_some hF
    refine cl_cv (va_runI (As := [.int p1]) S (cm_X12_init l D dA _ A bb5 (cl_n σ0 + 1) p1 (cl_nw σ0 10 0) _ ee5 h6c) (cwI 1 hts (lw_meth q945) rfl rfl rfl (hts _ q107) (hts _ q943) (hts _ q944) rfl cd_X12_init ⟨Nat.le_of_ble_eq_true rfl, Nat.le_of_ble_eq_true rfl⟩) (cl_preS V [.ref bb5, .int p1]) rfl rfl hl.1 rfl (lv_room (Nat.le_of_ble_eq_true rfl)) dX0_personBy_48 ⟨Nat.le_of_ble_eq_true rfl, Nat.le_of_ble_eq_true rfl⟩) V (fun ad _ _ hag hle V => ?_)
    replace ee5 := ee5.mv hag hle
    refine lv_goto (tgt := 84) hx hb dX0_personBy_51 (by decide) ?_
    refine W.widen (k := 1) (n := 1) (by first | omega | (dsimp only; omega)) (by first | omega | (dsimp only; omega)) ?_
    obtain ⟨hF1, hF2⟩ := dx_r2 hF
    subst hF1
    subst hF2
    exact cl_rr S V hr (Or.inl ⟨_, rfl⟩) hlocks ee5 dX0_personBy_84
  replace hF := (if_neg hs2).symm.trans hF
  by_cases hs3 : p0 = (3 : Int32)
  · replace hF := (if_pos hs3).symm.trans hF
    refine lv_tableIn (tgt := 54) hx hb dX0_personBy_1 (by rw [hs3]; decide) (by rw [hs3]; decide) (by rw [hs3]; rfl) (by decide) ?_
    refine cl_new S V rfl (by decide) in_X13 tyX13 tyX13_ok cl_dfX13 q949 q950 q108 (Nat.le_of_ble_eq_true rfl) (Nat.le_of_ble_eq_true rfl) dX0_personBy_54 (fun bb7 ad _ hag ee7 V => ?_)
    have k7 : cl_k (cl_nw σ0 11 0) (cl_n σ0 + 1) = 11 := cl_k_nw
    refine lv_dup hx hb dX0_personBy_57 rfl ?_
    refine lv_iload_n hx hb dX0_personBy_58 rfl (lv_at hl 1 rfl) ?_
    obtain ⟨σ8, h8c, hF⟩ := dx_b1_some hF
    refine cl_cv (va_runI (As := [.int p1]) S (cm_X13_init l D dA _ A bb7 (cl_n σ0 + 1) p1 (cl_nw σ0 11 0) _ ee7 h8c) (cwI 1 hts (lw_meth q953) rfl rfl rfl (hts _ q108) (hts _ q951) (hts _ q952) rfl cd_X13_init ⟨Nat.le_of_ble_eq_true rfl, Nat.le_of_ble_eq_true rfl⟩) (cl_preS V [.ref bb7, .int p1]) rfl rfl hl.1 rfl (lv_room (Nat.le_of_ble_eq_true rfl)) dX0_personBy_59 ⟨Nat.le_of_ble_eq_true rfl, Nat.le_of_ble_eq_true rfl⟩) V (fun ad _ _ hag hle V => ?_)
    replace ee7 := ee7.mv hag hle
    refine lv_goto (tgt := 84) hx hb dX0_personBy_62 (by decide) ?_
    refine W.widen (k := 1) (n := 1) (by first | omega | (dsimp only; omega)) (by first | omega | (dsimp only; omega)) ?_
    obtain ⟨hF1, hF2⟩ := dx_r2 hF
    subst hF1
    subst hF2
    exact cl_rr S V hr (Or.inl ⟨_, rfl⟩) hlocks ee7 dX0_personBy_84
  replace hF := (if_neg hs3).symm.trans hF
  by_cases hs4 : p0 = (4 : Int32)
  · replace hF := (if_pos hs4).symm.trans hF
    refine lv_tableIn (tgt := 65) hx hb dX0_personBy_1 (by rw [hs4]; decide) (by rw [hs4]; decide) (by rw [hs4]; rfl) (by decide) ?_
    refine cl_new S V rfl (by decide) in_X14 tyX14 tyX14_ok cl_dfX14 q957 q958 q109 (Nat.le_of_ble_eq_true rfl) (Nat.le_of_ble_eq_true rfl) dX0_personBy_65 (fun bb9 ad _ hag ee9 V => ?_)
    have k9 : cl_k (cl_nw σ0 12 0) (cl_n σ0 + 1) = 12 := cl_k_nw
    refine lv_dup hx hb dX0_personBy_68 rfl ?_
    refine lv_iload_n hx hb dX0_personBy_69 rfl (lv_at hl 1 rfl) ?_
    obtain ⟨σ10, h10c, hF⟩ := dx_b1_some hF
    refine cl_cv (va_runI (As := [.int p1]) S (cm_X14_init l D dA _ A bb9 (cl_n σ0 + 1) p1 (cl_nw σ0 12 0) _ ee9 h10c) (cwI 1 hts (lw_meth q961) rfl rfl rfl (hts _ q109) (hts _ q959) (hts _ q960) rfl cd_X14_init ⟨Nat.le_of_ble_eq_true rfl, Nat.le_of_ble_eq_true rfl⟩) (cl_preS V [.ref bb9, .int p1]) rfl rfl hl.1 rfl (lv_room (Nat.le_of_ble_eq_true rfl)) dX0_personBy_70 ⟨Nat.le_of_ble_eq_true rfl, Nat.le_of_ble_eq_true rfl⟩) V (fun ad _ _ hag hle V => ?_)
    replace ee9 := ee9.mv hag hle
    refine lv_goto (tgt := 84) hx hb dX0_personBy_73 (by decide) ?_
    refine W.widen (k := 1) (n := 1) (by first | omega | (dsimp only; omega)) (by first | omega | (dsimp only; omega)) ?_
    obtain ⟨hF1, hF2⟩ := dx_r2 hF
    subst hF1
    subst hF2
    exact cl_rr S V hr (Or.inl ⟨_, rfl⟩) hlocks ee9 dX0_personBy_84
  replace hF := (if_neg hs4).symm.trans hF
  refine lv_tableOut (tgt := 76) hx hb dX0_personBy_1 (by have nhs1 := lv_neT hs1 (show ((1 : Int32)).toInt = 1 from rfl); have nhs2 := lv_neT hs2 (show ((2 : Int32)).toInt = 2 from rfl); have nhs3 := lv_neT hs3 (show ((3 : Int32)).toInt = 3 from rfl); have nhs4 := lv_neT hs4 (show ((4 : Int32)).toInt = 4 from rfl); omega) (by decide) ?_
  refine cl_new S V rfl (by decide) in_X15 tyX15 tyX15_ok cl_dfX15 q965 q966 q110 (Nat.le_of_ble_eq_true rfl) (Nat.le_of_ble_eq_true rfl) dX0_personBy_76 (fun bb1 ad _ hag ee1 V => ?_)
  have k1 : cl_k (cl_nw σ0 13 0) (cl_n σ0 + 1) = 13 := cl_k_nw
  refine lv_dup hx hb dX0_personBy_79 rfl ?_
  refine lv_iload_n hx hb dX0_personBy_80 rfl (lv_at hl 1 rfl) ?_
  obtain ⟨σ2, h2c, hF⟩ := dx_b1_some hF
  refine cl_cv (va_runI (As := [.int p1]) S (cm_X15_init l D dA _ A bb1 (cl_n σ0 + 1) p1 (cl_nw σ0 13 0) _ ee1 h2c) (cwI 1 hts (lw_meth q969) rfl rfl rfl (hts _ q110) (hts _ q967) (hts _ q968) rfl cd_X15_init ⟨Nat.le_of_ble_eq_true rfl, Nat.le_of_ble_eq_true rfl⟩) (cl_preS V [.ref bb1, .int p1]) rfl rfl hl.1 rfl (lv_room (Nat.le_of_ble_eq_true rfl)) dX0_personBy_81 ⟨Nat.le_of_ble_eq_true rfl, Nat.le_of_ble_eq_true rfl⟩) V (fun ad _ _ hag hle V => ?_)
  replace ee1 := ee1.mv hag hle
  refine W.widen (k := 1) (n := 1) (by first | omega | (dsimp only; omega)) (by first | omega | (dsimp only; omega)) ?_
  obtain ⟨hF1, hF2⟩ := dx_r2 hF
  subst hF1
  subst hF2
  exact cl_rr S V hr (Or.inl ⟨_, rfl⟩) hlocks ee1 dX0_personBy_84
theorem cd_X7_contact : yX7_contact.cls ≠ "java/lang/invoke/MethodHandle" ∧ yX7_contact.cls ≠ "java/lang/invoke/VarHandle" ∧ (parseMethodDescriptor yX7_contact.desc).map (fun d => d.parameters.length) = some 0 := by decide +kernel
set_option maxHeartbeats 4000000 in
set_option maxRecDepth 100000 in
theorem cm_X7_contact (l : Launch) (hlt : l.stackTraces = false) (D : va_G) (dA : Nat → ClassId) (ad0 : Nat → Nat) (A : Nat → Prop) (a0 : Nat) (o0 : Nat)  (σ0 : cl_S) (z : Unit ⊕ Nat) (σ' : cl_S) (e0 : cl_at ad0 σ0 a0 o0) (hF : cl_X7_contact o0 σ0 = some (z, σ')) : cx_Cv l yX7_contact cX7_contact 2 ({ frames := 6, cells := 11, slots := 88, locals := 135 }) D dA ad0 A [.ref a0] σ0 z σ' := by
  refine cx_in RX7 rfl (by decide) (Nat.le_of_ble_eq_true rfl) ?_
  intro p e s m below meth c ls S hr hlocks hini htab hv hl
  have hx := S.1
  have hb := S.2.1
  have hown := S.2.2.2.1
  have hts := S.2.2.2.2
  obtain ⟨hN, hK, hP, hD, hA, hZ⟩ := hv
  have V : cl_V D dA (ad0, cl_n σ0) ad0 A s.heap σ0 s s.heap [] := ⟨hN, hK, hP, hD, va_S.rf, hA, hZ, fun _ _ => rfl, Nat.le_refl _⟩
  obtain ⟨ad, V, e0⟩ : ∃ ad, cl_V D dA (ad0, cl_n σ0) ad A s.heap σ0 s s.heap [] ∧ cl_at ad σ0 a0 o0 := ⟨ad0, V, e0⟩
  replace hl : lv_has ls 2 [(0, .ref a0)] := hl
  unfold cl_X7_contact at hF
  have hJ87 : ∀ (σ : cl_S) (v1 : Int32) (t1 : Bool) (ad : Nat → Nat) (H : Heap) (locs : List Loc) (ls : Array Slot), cl_X7_contact_J87 o0 σ v1 t1 = some (z, σ') → cl_at ad σ a0 o0 → cl_at ad σ a0 o0 → cl_V D dA (ad0, cl_n σ0) ad A s.heap σ s H locs → lv_has ls 2 [(0, .ref a0), (1, .int v1)] → W p l e ({ frames := 6, cells := 11, slots := 88, locals := 135 }) s m ([.ref a0] : List Value).toArray below meth c H locs 4 32 (vx_MQ below (cx_Qv D dA ad0 A σ0 σ' z) (cx_X D dA ad0 A σ0 σ' z) ([.ref a0] : List Value).toArray s 11 88 A) (F0 m 87 ls [.int (dx_bI t1), .ref a0]) := by
    intro σ v1 t1 ad H locs ls hF e0 e0 V hl
    unfold cl_X7_contact_J87 at hF
    refine lv_iconst (v := 2) hx hb dX7_contact_87 (by decide) ?_
    obtain ⟨hg, hF⟩ := dx_gd_some hF
    have k20 := of_decide_eq_true hg
    obtain ⟨z19, σ19, h19c, hF⟩ := dx_bx_some hF
    refine cx_cv (vx_runV (As := [.int (dx_bI t1), .int (2 : Int32)]) S (cm_X7_must l hlt D dA _ A a0 o0 t1 (2 : Int32) σ _ _ e0 h19c) (cwV 2 hts (lw_V q573 q575 qs10 q94 q576) rfl rfl rfl ⟨rfl, cd_X7_must⟩ ⟨Nat.le_of_ble_eq_true rfl, Nat.le_of_ble_eq_true rfl⟩) (cl_preV V [.int (dx_bI t1), .int (2 : Int32)] e0 k20 rfl (by decide)) rfl rfl hl.1 rfl (lv_room (Nat.le_of_ble_eq_true rfl)) dX7_contact_88 ⟨Nat.le_of_ble_eq_true rfl, Nat.le_of_ble_eq_true rfl⟩) V (fun x19 ce q9 ad _ _ hz hag hle hq9 V hce hcv hcl => ?_) (fun _ ad _ _ hz hag hle V => ?_)
    · subst hz
      replace hF := dx_xs_r hF
      replace e0 := e0.mv hag hle
      obtain ⟨hF1, hF2⟩ := dx_r2 hF
      subst hF1
      subst hF2
      exact cx_out V htab hlocks hq9 hce hcv hcl (by first | omega | (dsimp only; omega)) (by first | omega | (dsimp only; omega))
    · subst hz
      replace hF := dx_xs_l hF
      replace e0 := e0.mv hag hle
      refine lv_aload_n hx hb dX7_contact_91 rfl (lv_at hl 0 rfl) ?_
      obtain ⟨hg, hF⟩ := dx_gd_some hF
      have k21 := of_decide_eq_true hg
      obtain ⟨hg, hF⟩ := dx_gd_some hF
      refine cl_gr S V e0 k21 rfl (by decide) in_X7 6 (by decide) rfl q534 rfl dX7_contact_92 (of_decide_eq_true hg) (fun bb22 ee22 => ?_)
      obtain ⟨hg, hF⟩ := dx_gd_some hF
      have k23 := of_decide_eq_true hg
      obtain ⟨hg, hF⟩ := dx_gd_some hF
      refine cl_gr S V ee22 k23 rfl (by decide) in_X2 7 (by decide) rfl q177 rfl dX7_contact_95 (of_decide_eq_true hg) (fun bb24 ee24 => ?_)
      refine lv_iload_n hx hb dX7_contact_98 rfl (lv_at hl 1 rfl) ?_
      refine lv_aload_n hx hb dX7_contact_99 rfl (lv_at hl 0 rfl) ?_
      refine lv_iconst (v := 0) hx hb dX7_contact_100 (by decide) ?_
      refine lv_aload_n hx hb dX7_contact_101 rfl (lv_at hl 0 rfl) ?_
      obtain ⟨hg, hF⟩ := dx_gd_some hF
      refine cl_gr S V e0 k21 rfl (by decide) in_X7 6 (by decide) rfl q534 rfl dX7_contact_102 (of_decide_eq_true hg) (fun bb25 ee25 => ?_)
      refine cl_gi S V ee25 k23 rfl (by decide) in_X2 0 (by decide) rfl q151 rfl dX7_contact_105 ?_
      refine lv_iconst (v := 1) hx hb dX7_contact_108 (by decide) ?_
      refine lv_isub hx hb dX7_contact_109 ?_
      obtain ⟨z26, σ26, h26c, hF⟩ := dx_bx_some hF
      refine cx_ci (vx_runV (As := [.int (0 : Int32), .int ((cl_i σ19 (cl_r σ19 o0 6) 0) - (1 : Int32))]) S (cm_X7_figure l hlt D dA _ A a0 o0 (0 : Int32) ((cl_i σ19 (cl_r σ19 o0 6) 0) - (1 : Int32)) σ19 _ _ e0 h26c) (cwV 2 hts (lw_V q605 q607 qs11 q94 q608) rfl rfl rfl ⟨rfl, cd_X7_figure⟩ ⟨Nat.le_of_ble_eq_true rfl, Nat.le_of_ble_eq_true rfl⟩) (cl_preV V [.int (0 : Int32), .int ((cl_i σ19 (cl_r σ19 o0 6) 0) - (1 : Int32))] e0 k21 rfl (by decide)) rfl rfl hl.1 rfl (lv_room (Nat.le_of_ble_eq_true rfl)) dX7_contact_110 ⟨Nat.le_of_ble_eq_true rfl, Nat.le_of_ble_eq_true rfl⟩) V (fun x26 ce q9 ad _ _ hz hag hle hq9 V hce hcv hcl => ?_) (fun r26 ad _ _ hz hag hle V => ?_)
      · subst hz
        replace hF := dx_xs_r hF
        replace ee24 := ee24.mv hag hle
        replace e0 := e0.mv hag hle
        obtain ⟨hF1, hF2⟩ := dx_r2 hF
        subst hF1
        subst hF2
        exact cx_out V htab hlocks hq9 hce hcv hcl (by first | omega | (dsimp only; omega)) (by first | omega | (dsimp only; omega))
      · subst hz
        replace hF := dx_xs_l hF
        replace ee24 := ee24.mv hag hle
        replace e0 := e0.mv hag hle
        obtain ⟨hg, hF⟩ := dx_gd_some hF
        have k27 := of_decide_eq_true hg
        obtain ⟨hg, hF⟩ := dx_gd_some hF
        refine cl_st S V ee24 k27 (dx_inb_in hg) dX7_contact_113 (fun _ _ V => ?_)
        obtain ⟨σ28, eσ28⟩ : ∃ x, x = (cl_wi σ26 (cl_r σ19 (cl_r σ19 o0 6) 7) v1.toNatClampNeg r26) := ⟨_, rfl⟩
        rw [← eσ28] at V
        replace hF := dx_let_e eσ28 hF
        replace e0 : cl_at ad σ28 a0 o0 := by rw [eσ28]; exact e0
        replace k27 : cl_k σ28 (cl_r σ19 (cl_r σ19 o0 6) 7) = 20 := by rw [eσ28]; exact k27
        refine lv_aload_n hx hb dX7_contact_114 rfl (lv_at hl 0 rfl) ?_
        refine lv_bipush (v := 44) hx hb dX7_contact_115 (by decide) ?_
        obtain ⟨hg, hF⟩ := dx_gd_some hF
        have k30 := of_decide_eq_true hg
        obtain ⟨z29, σ29, h29c, hF⟩ := dx_bx_some hF
        refine cx_cv (vx_runV (As := [.int (44 : Int32)]) S (cm_X7_sign l hlt D dA _ A a0 o0 (44 : Int32) σ28 _ _ e0 h29c) (cwV 1 hts (lw_V q609 q611 qs12 q94 q612) rfl rfl rfl ⟨rfl, cd_X7_sign⟩ ⟨Nat.le_of_ble_eq_true rfl, Nat.le_of_ble_eq_true rfl⟩) (cl_preV V [.int (44 : Int32)] e0 k30 rfl (by decide)) rfl rfl hl.1 rfl (lv_room (Nat.le_of_ble_eq_true rfl)) dX7_contact_117 ⟨Nat.le_of_ble_eq_true rfl, Nat.le_of_ble_eq_true rfl⟩) V (fun x29 ce q9 ad _ _ hz hag hle hq9 V hce hcv hcl => ?_) (fun _ ad _ _ hz hag hle V => ?_)
        · subst hz
          replace hF := dx_xs_r hF
          replace e0 := e0.mv hag hle
          obtain ⟨hF1, hF2⟩ := dx_r2 hF
          subst hF1
          subst hF2
          exact cx_out V htab hlocks hq9 hce hcv hcl (by first | omega | (dsimp only; omega)) (by first | omega | (dsimp only; omega))
        · subst hz
          replace hF := dx_xs_l hF
          replace e0 := e0.mv hag hle
          refine lv_aload_n hx hb dX7_contact_120 rfl (lv_at hl 0 rfl) ?_
          obtain ⟨hg, hF⟩ := dx_gd_some hF
          have k31 := of_decide_eq_true hg
          obtain ⟨hg, hF⟩ := dx_gd_some hF
          refine cl_gr S V e0 k31 rfl (by decide) in_X7 6 (by decide) rfl q534 rfl dX7_contact_121 (of_decide_eq_true hg) (fun bb32 ee32 => ?_)
          obtain ⟨hg, hF⟩ := dx_gd_some hF
          have k33 := of_decide_eq_true hg
          obtain ⟨hg, hF⟩ := dx_gd_some hF
          refine cl_gr S V ee32 k33 rfl (by decide) in_X2 8 (by decide) rfl q182 rfl dX7_contact_124 (of_decide_eq_true hg) (fun bb34 ee34 => ?_)
          refine lv_iload_n hx hb dX7_contact_127 rfl (lv_at hl 1 rfl) ?_
          refine lv_aload_n hx hb dX7_contact_128 rfl (lv_at hl 0 rfl) ?_
          refine lv_iconst (v := 0) hx hb dX7_contact_129 (by decide) ?_
          refine lv_bipush (v := 30) hx hb dX7_contact_130 (by decide) ?_
          obtain ⟨z35, σ35, h35c, hF⟩ := dx_bx_some hF
          refine cx_ci (vx_runV (As := [.int (0 : Int32), .int (30 : Int32)]) S (cm_X7_figure l hlt D dA _ A a0 o0 (0 : Int32) (30 : Int32) σ29 _ _ e0 h35c) (cwV 2 hts (lw_V q605 q607 qs11 q94 q608) rfl rfl rfl ⟨rfl, cd_X7_figure⟩ ⟨Nat.le_of_ble_eq_true rfl, Nat.le_of_ble_eq_true rfl⟩) (cl_preV V [.int (0 : Int32), .int (30 : Int32)] e0 k31 rfl (by decide)) rfl rfl hl.1 rfl (lv_room (Nat.le_of_ble_eq_true rfl)) dX7_contact_132 ⟨Nat.le_of_ble_eq_true rfl, Nat.le_of_ble_eq_true rfl⟩) V (fun x35 ce q9 ad _ _ hz hag hle hq9 V hce hcv hcl => ?_) (fun r35 ad _ _ hz hag hle V => ?_)
          · subst hz
            replace hF := dx_xs_r hF
            replace ee34 := ee34.mv hag hle
            replace e0 := e0.mv hag hle
            obtain ⟨hF1, hF2⟩ := dx_r2 hF
            subst hF1
            subst hF2
            exact cx_out V htab hlocks hq9 hce hcv hcl (by first | omega | (dsimp only; omega)) (by first | omega | (dsimp only; omega))
          · subst hz
            replace hF := dx_xs_l hF
            replace ee34 := ee34.mv hag hle
            replace e0 := e0.mv hag hle
            obtain ⟨hg, hF⟩ := dx_gd_some hF
            have k36 := of_decide_eq_true hg
            obtain ⟨hg, hF⟩ := dx_gd_some hF
            refine cl_st S V ee34 k36 (dx_inb_in hg) dX7_contact_135 (fun _ _ V => ?_)
            obtain ⟨σ37, eσ37⟩ : ∃ x, x = (cl_wi σ35 (cl_r σ29 (cl_r σ29 o0 6) 8) v1.toNatClampNeg r35) := ⟨_, rfl⟩
            rw [← eσ37] at V
            replace hF := dx_let_e eσ37 hF
            replace e0 : cl_at ad σ37 a0 o0 := by rw [eσ37]; exact e0
            replace k36 : cl_k σ37 (cl_r σ29 (cl_r σ29 o0 6) 8) = 20 := by rw [eσ37]; exact k36
            refine lv_aload_n hx hb dX7_contact_136 rfl (lv_at hl 0 rfl) ?_
            refine lv_bipush (v := 59) hx hb dX7_contact_137 (by decide) ?_
            obtain ⟨hg, hF⟩ := dx_gd_some hF
            have k39 := of_decide_eq_true hg
            obtain ⟨z38, σ38, h38c, hF⟩ := dx_bx_some hF
            refine cx_cv (vx_runV (As := [.int (59 : Int32)]) S (cm_X7_sign l hlt D dA _ A a0 o0 (59 : Int32) σ37 _ _ e0 h38c) (cwV 1 hts (lw_V q609 q611 qs12 q94 q612) rfl rfl rfl ⟨rfl, cd_X7_sign⟩ ⟨Nat.le_of_ble_eq_true rfl, Nat.le_of_ble_eq_true rfl⟩) (cl_preV V [.int (59 : Int32)] e0 k39 rfl (by decide)) rfl rfl hl.1 rfl (lv_room (Nat.le_of_ble_eq_true rfl)) dX7_contact_139 ⟨Nat.le_of_ble_eq_true rfl, Nat.le_of_ble_eq_true rfl⟩) V (fun x38 ce q9 ad _ _ hz hag hle hq9 V hce hcv hcl => ?_) (fun _ ad _ _ hz hag hle V => ?_)
            · subst hz
              replace hF := dx_xs_r hF
              replace e0 := e0.mv hag hle
              obtain ⟨hF1, hF2⟩ := dx_r2 hF
              subst hF1
              subst hF2
              exact cx_out V htab hlocks hq9 hce hcv hcl (by first | omega | (dsimp only; omega)) (by first | omega | (dsimp only; omega))
            · subst hz
              replace hF := dx_xs_l hF
              replace e0 := e0.mv hag hle
              refine lv_aload_n hx hb dX7_contact_142 rfl (lv_at hl 0 rfl) ?_
              obtain ⟨hg, hF⟩ := dx_gd_some hF
              have k40 := of_decide_eq_true hg
              obtain ⟨hg, hF⟩ := dx_gd_some hF
              refine cl_gr S V e0 k40 rfl (by decide) in_X7 6 (by decide) rfl q534 rfl dX7_contact_143 (of_decide_eq_true hg) (fun bb41 ee41 => ?_)
              refine lv_dup hx hb dX7_contact_146 rfl ?_
              obtain ⟨hg, hF⟩ := dx_gd_some hF
              have k42 := of_decide_eq_true hg
              refine cl_gi S V ee41 k42 rfl (by decide) in_X2 1 (by decide) rfl q156 rfl dX7_contact_147 ?_
              refine lv_iconst (v := 1) hx hb dX7_contact_150 (by decide) ?_
              refine lv_iadd hx hb dX7_contact_151 ?_
              refine cl_pi S V ee41 k42 rfl (by decide) in_X2 tyX2 tyX2_ok nmX2 1 (by decide) rfl q156 rfl rfl rfl dX7_contact_152 (fun _ _ V => ?_)
              obtain ⟨σ43, eσ43⟩ : ∃ x, x = (cl_wi σ38 (cl_r σ38 o0 6) 1 ((cl_i σ38 (cl_r σ38 o0 6) 1) + (1 : Int32))) := ⟨_, rfl⟩
              rw [← eσ43] at V
              replace hF := dx_let_e eσ43 hF
              replace e0 : cl_at ad σ43 a0 o0 := by rw [eσ43]; exact e0
              replace k40 : cl_k σ43 o0 = 7 := by rw [eσ43]; exact k40
              replace k42 : cl_k σ43 (cl_r σ38 o0 6) = 2 := by rw [eσ43]; exact k42
              refine W.widen (k := 11) (n := 88) (by first | omega | (dsimp only; omega)) (by first | omega | (dsimp only; omega)) ?_
              obtain ⟨hF1, hF2⟩ := dx_r2 hF
              subst hF1
              subst hF2
              exact cx_rv S V hr hlocks dX7_contact_155
  have hJ20 : ∀ (σ : cl_S) (v1 : Int32) (t1 : Bool) (ad : Nat → Nat) (H : Heap) (locs : List Loc) (ls : Array Slot), cl_X7_contact_J20 o0 σ v1 t1 = some (z, σ') → cl_at ad σ a0 o0 → cl_at ad σ a0 o0 → cl_V D dA (ad0, cl_n σ0) ad A s.heap σ s H locs → lv_has ls 2 [(0, .ref a0), (1, .int v1)] → W p l e ({ frames := 6, cells := 11, slots := 88, locals := 135 }) s m ([.ref a0] : List Value).toArray below meth c H locs 0 0 (vx_MQ below (cx_Qv D dA ad0 A σ0 σ' z) (cx_X D dA ad0 A σ0 σ' z) ([.ref a0] : List Value).toArray s 11 88 A) (F0 m 20 ls [.int (dx_bI t1), .ref a0]) := by
    intro σ v1 t1 ad H locs ls hF e0 e0 V hl
    unfold cl_X7_contact_J20 at hF
    refine lv_iconst (v := 3) hx hb dX7_contact_20 (by decide) ?_
    obtain ⟨hg, hF⟩ := dx_gd_some hF
    have k5 := of_decide_eq_true hg
    obtain ⟨z4, σ4, h4c, hF⟩ := dx_bx_some hF
    refine cx_cv (vx_runV (As := [.int (dx_bI t1), .int (3 : Int32)]) S (cm_X7_must l hlt D dA _ A a0 o0 t1 (3 : Int32) σ _ _ e0 h4c) (cwV 2 hts (lw_V q573 q575 qs10 q94 q576) rfl rfl rfl ⟨rfl, cd_X7_must⟩ ⟨Nat.le_of_ble_eq_true rfl, Nat.le_of_ble_eq_true rfl⟩) (cl_preV V [.int (dx_bI t1), .int (3 : Int32)] e0 k5 rfl (by decide)) rfl rfl hl.1 rfl (lv_room (Nat.le_of_ble_eq_true rfl)) dX7_contact_21 ⟨Nat.le_of_ble_eq_true rfl, Nat.le_of_ble_eq_true rfl⟩) V (fun x4 ce q9 ad _ _ hz hag hle hq9 V hce hcv hcl => ?_) (fun _ ad _ _ hz hag hle V => ?_)
    · subst hz
      replace hF := dx_xs_r hF
      replace e0 := e0.mv hag hle
      obtain ⟨hF1, hF2⟩ := dx_r2 hF
      subst hF1
      subst hF2
      exact cx_out V htab hlocks hq9 hce hcv hcl (by first | omega | (dsimp only; omega)) (by first | omega | (dsimp only; omega))
    · subst hz
      replace hF := dx_xs_l hF
      replace e0 := e0.mv hag hle
      refine lv_aload_n hx hb dX7_contact_24 rfl (lv_at hl 0 rfl) ?_
      obtain ⟨hg, hF⟩ := dx_gd_some hF
      have k7 := of_decide_eq_true hg
      obtain ⟨σ6, h6c, hF⟩ := dx_b1_some hF
      refine cl_cv (va_runV (As := []) S (cm_X7_next l D dA _ A a0 o0  σ4 _ e0 h6c) (cwV 0 hts (lw_V q555 q557 qs7 q94 q558) rfl rfl rfl ⟨rfl, cd_X7_next⟩ ⟨Nat.le_of_ble_eq_true rfl, Nat.le_of_ble_eq_true rfl⟩) (cl_preV V [] e0 k7 rfl (by decide)) rfl rfl hl.1 rfl (lv_room (Nat.le_of_ble_eq_true rfl)) dX7_contact_25 ⟨Nat.le_of_ble_eq_true rfl, Nat.le_of_ble_eq_true rfl⟩) V (fun ad _ _ hag hle V => ?_)
      replace e0 := e0.mv hag hle
      refine lv_aload_n hx hb dX7_contact_28 rfl (lv_at hl 0 rfl) ?_
      obtain ⟨hg, hF⟩ := dx_gd_some hF
      have k8 := of_decide_eq_true hg
      obtain ⟨hg, hF⟩ := dx_gd_some hF
      refine cl_gr S V e0 k8 rfl (by decide) in_X7 6 (by decide) rfl q534 rfl dX7_contact_29 (of_decide_eq_true hg) (fun bb9 ee9 => ?_)
      obtain ⟨hg, hF⟩ := dx_gd_some hF
      have k10 := of_decide_eq_true hg
      obtain ⟨hg, hF⟩ := dx_gd_some hF
      refine cl_gr S V ee9 k10 rfl (by decide) in_X2 6 (by decide) rfl q173 rfl dX7_contact_32 (of_decide_eq_true hg) (fun bb11 ee11 => ?_)
      refine lv_iload_n hx hb dX7_contact_35 rfl (lv_at hl 1 rfl) ?_
      refine lv_aload_n hx hb dX7_contact_36 rfl (lv_at hl 0 rfl) ?_
      refine lv_iconst (v := 0) hx hb dX7_contact_37 (by decide) ?_
      refine lv_aload_n hx hb dX7_contact_38 rfl (lv_at hl 0 rfl) ?_
      obtain ⟨hg, hF⟩ := dx_gd_some hF
      refine cl_gr S V e0 k8 rfl (by decide) in_X7 6 (by decide) rfl q534 rfl dX7_contact_39 (of_decide_eq_true hg) (fun bb12 ee12 => ?_)
      refine cl_gi S V ee12 k10 rfl (by decide) in_X2 0 (by decide) rfl q151 rfl dX7_contact_42 ?_
      refine lv_iconst (v := 1) hx hb dX7_contact_45 (by decide) ?_
      refine lv_isub hx hb dX7_contact_46 ?_
      obtain ⟨z13, σ13, h13c, hF⟩ := dx_bx_some hF
      refine cx_ci (vx_runV (As := [.int (0 : Int32), .int ((cl_i σ6 (cl_r σ6 o0 6) 0) - (1 : Int32))]) S (cm_X7_figure l hlt D dA _ A a0 o0 (0 : Int32) ((cl_i σ6 (cl_r σ6 o0 6) 0) - (1 : Int32)) σ6 _ _ e0 h13c) (cwV 2 hts (lw_V q605 q607 qs11 q94 q608) rfl rfl rfl ⟨rfl, cd_X7_figure⟩ ⟨Nat.le_of_ble_eq_true rfl, Nat.le_of_ble_eq_true rfl⟩) (cl_preV V [.int (0 : Int32), .int ((cl_i σ6 (cl_r σ6 o0 6) 0) - (1 : Int32))] e0 k8 rfl (by decide)) rfl rfl hl.1 rfl (lv_room (Nat.le_of_ble_eq_true rfl)) dX7_contact_47 ⟨Nat.le_of_ble_eq_true rfl, Nat.le_of_ble_eq_true rfl⟩) V (fun x13 ce q9 ad _ _ hz hag hle hq9 V hce hcv hcl => ?_) (fun r13 ad _ _ hz hag hle V => ?_)
      · subst hz
        replace hF := dx_xs_r hF
        replace ee11 := ee11.mv hag hle
        replace e0 := e0.mv hag hle
        obtain ⟨hF1, hF2⟩ := dx_r2 hF
        subst hF1
        subst hF2
        exact cx_out V htab hlocks hq9 hce hcv hcl (by first | omega | (dsimp only; omega)) (by first | omega | (dsimp only; omega))
      · subst hz
        replace hF := dx_xs_l hF
        replace ee11 := ee11.mv hag hle
        replace e0 := e0.mv hag hle
        obtain ⟨hg, hF⟩ := dx_gd_some hF
        have k14 := of_decide_eq_true hg
        obtain ⟨hg, hF⟩ := dx_gd_some hF
        refine cl_st S V ee11 k14 (dx_inb_in hg) dX7_contact_50 (fun _ _ V => ?_)
        obtain ⟨σ15, eσ15⟩ : ∃ x, x = (cl_wi σ13 (cl_r σ6 (cl_r σ6 o0 6) 6) v1.toNatClampNeg r13) := ⟨_, rfl⟩
        rw [← eσ15] at V
        replace hF := dx_let_e eσ15 hF
        replace e0 : cl_at ad σ15 a0 o0 := by rw [eσ15]; exact e0
        replace k14 : cl_k σ15 (cl_r σ6 (cl_r σ6 o0 6) 6) = 20 := by rw [eσ15]; exact k14
        refine lv_aload_n hx hb dX7_contact_51 rfl (lv_at hl 0 rfl) ?_
        refine lv_bipush (v := 44) hx hb dX7_contact_52 (by decide) ?_
        obtain ⟨hg, hF⟩ := dx_gd_some hF
        have k17 := of_decide_eq_true hg
        obtain ⟨z16, σ16, h16c, hF⟩ := dx_bx_some hF
        refine cx_cv (vx_runV (As := [.int (44 : Int32)]) S (cm_X7_sign l hlt D dA _ A a0 o0 (44 : Int32) σ15 _ _ e0 h16c) (cwV 1 hts (lw_V q609 q611 qs12 q94 q612) rfl rfl rfl ⟨rfl, cd_X7_sign⟩ ⟨Nat.le_of_ble_eq_true rfl, Nat.le_of_ble_eq_true rfl⟩) (cl_preV V [.int (44 : Int32)] e0 k17 rfl (by decide)) rfl rfl hl.1 rfl (lv_room (Nat.le_of_ble_eq_true rfl)) dX7_contact_54 ⟨Nat.le_of_ble_eq_true rfl, Nat.le_of_ble_eq_true rfl⟩) V (fun x16 ce q9 ad _ _ hz hag hle hq9 V hce hcv hcl => ?_) (fun _ ad _ _ hz hag hle V => ?_)
        · subst hz
          replace hF := dx_xs_r hF
          replace e0 := e0.mv hag hle
          obtain ⟨hF1, hF2⟩ := dx_r2 hF
          subst hF1
          subst hF2
          exact cx_out V htab hlocks hq9 hce hcv hcl (by first | omega | (dsimp only; omega)) (by first | omega | (dsimp only; omega))
        · subst hz
          replace hF := dx_xs_l hF
          replace e0 := e0.mv hag hle
          refine lv_aload_n hx hb dX7_contact_57 rfl (lv_at hl 0 rfl) ?_
          refine lv_aload_n hx hb dX7_contact_58 rfl (lv_at hl 0 rfl) ?_
          obtain ⟨hg, hF⟩ := dx_gd_some hF
          have k18 := of_decide_eq_true hg
          refine cl_gi S V e0 k18 rfl (by decide) in_X7 3 (by decide) rfl q531 rfl dX7_contact_59 ?_
          refine lv_iconst (v := 2) hx hb dX7_contact_62 (by decide) ?_
          refine lv_icmp_ne (tgt := 82) hx hb dX7_contact_63 (by decide) (fun hc => ?_) (fun hc => ?_)
          · replace hF := (if_neg hc).symm.trans hF
            refine lv_iconst (v := 1) hx hb dX7_contact_82 (by decide) ?_
            refine lv_goto (tgt := 87) hx hb dX7_contact_83 (by decide) ?_
            refine W.widen (k := 4) (n := 32) (by first | omega | (dsimp only; omega)) (by first | omega | (dsimp only; omega)) ?_
            exact hJ87 σ16 v1 true _ _ _ _ hF e0 e0 V (lv_sub hl [0, 1] rfl)
          · replace hF := (if_pos hc).symm.trans hF
            refine lv_aload_n hx hb dX7_contact_66 rfl (lv_at hl 0 rfl) ?_
            refine cl_gi S V e0 k18 rfl (by decide) in_X7 5 (by decide) rfl q533 rfl dX7_contact_67 ?_
            refine lv_aload_n hx hb dX7_contact_70 rfl (lv_at hl 0 rfl) ?_
            obtain ⟨hg, hF⟩ := dx_gd_some hF
            refine cl_gr S V e0 k18 rfl (by decide) in_X7 6 (by decide) rfl q534 rfl dX7_contact_71 (of_decide_eq_true hg) (fun bb44 ee44 => ?_)
            obtain ⟨hg, hF⟩ := dx_gd_some hF
            have k45 := of_decide_eq_true hg
            obtain ⟨hg, hF⟩ := dx_gd_some hF
            refine cl_gr S V ee44 k45 rfl (by decide) in_X2 6 (by decide) rfl q173 rfl dX7_contact_74 (of_decide_eq_true hg) (fun bb46 ee46 => ?_)
            refine lv_iload_n hx hb dX7_contact_77 rfl (lv_at hl 1 rfl) ?_
            obtain ⟨hg, hF⟩ := dx_gd_some hF
            have k47 := of_decide_eq_true hg
            obtain ⟨hg, hF⟩ := dx_gd_some hF
            refine cl_ld S V ee46 k47 (dx_inb_in hg) dX7_contact_78 ?_
            refine lv_icmp_eq (tgt := 86) hx hb dX7_contact_79 (by decide) (fun hc => ?_) (fun hc => ?_)
            · replace hF := (if_pos hc).symm.trans hF
              refine lv_iconst (v := 0) hx hb dX7_contact_86 (by decide) ?_
              refine W.widen (k := 4) (n := 32) (by first | omega | (dsimp only; omega)) (by first | omega | (dsimp only; omega)) ?_
              exact hJ87 σ16 v1 false _ _ _ _ hF e0 e0 V (lv_sub hl [0, 1] rfl)
            · replace hF := (if_neg hc).symm.trans hF
              refine lv_iconst (v := 1) hx hb dX7_contact_82 (by decide) ?_
              refine lv_goto (tgt := 87) hx hb dX7_contact_83 (by decide) ?_
              refine W.widen (k := 4) (n := 32) (by first | omega | (dsimp only; omega)) (by first | omega | (dsimp only; omega)) ?_
              exact hJ87 σ16 v1 true _ _ _ _ hF e0 e0 V (lv_sub hl [0, 1] rfl)
  refine lv_aload_n hx hb dX7_contact_0 rfl (lv_at hl 0 rfl) ?_
  obtain ⟨hg, hF⟩ := dx_gd_some hF
  have k1 := of_decide_eq_true hg
  obtain ⟨hg, hF⟩ := dx_gd_some hF
  refine cl_gr S V e0 k1 rfl (by decide) in_X7 6 (by decide) rfl q534 rfl dX7_contact_1 (of_decide_eq_true hg) (fun bb2 ee2 => ?_)
  obtain ⟨hg, hF⟩ := dx_gd_some hF
  have k3 := of_decide_eq_true hg
  refine cl_gi S V ee2 k3 rfl (by decide) in_X2 1 (by decide) rfl q156 rfl dX7_contact_4 ?_
  refine lv_istore_n (lv' := [(1, .int (cl_i σ0 (cl_r σ0 o0 6) 1)), (0, .ref a0)]) hx hb dX7_contact_7 rfl hl (by decide) rfl (fun ls hl => ?_)
  refine lv_aload_n hx hb dX7_contact_8 rfl (lv_at hl 1 rfl) ?_
  refine lv_iload_n hx hb dX7_contact_9 rfl (lv_at hl 0 rfl) ?_
  refine lv_bipush (v := 10) hx hb dX7_contact_10 (by decide) ?_
  refine lv_icmp_ge (tgt := 19) hx hb dX7_contact_12 (by decide) (fun hc => ?_) (fun hc => ?_)
  · replace hF := (if_pos hc).symm.trans hF
    refine lv_iconst (v := 0) hx hb dX7_contact_19 (by decide) ?_
    refine W.widen (k := 0) (n := 0) (by first | omega | (dsimp only; omega)) (by first | omega | (dsimp only; omega)) ?_
    exact hJ20 σ0 (cl_i σ0 (cl_r σ0 o0 6) 1) false _ _ _ _ hF e0 e0 V (lv_sub hl [1, 0] rfl)
  · replace hF := (if_neg hc).symm.trans hF
    refine lv_iconst (v := 1) hx hb dX7_contact_15 (by decide) ?_
    refine lv_goto (tgt := 20) hx hb dX7_contact_16 (by decide) ?_
    refine W.widen (k := 0) (n := 0) (by first | omega | (dsimp only; omega)) (by first | omega | (dsimp only; omega)) ?_
    exact hJ20 σ0 (cl_i σ0 (cl_r σ0 o0 6) 1) true _ _ _ _ hF e0 e0 V (lv_sub hl [1, 0] rfl)
theorem cd_X7_ill : yX7_ill.cls ≠ "java/lang/invoke/MethodHandle" ∧ yX7_ill.cls ≠ "java/lang/invoke/VarHandle" ∧ (parseMethodDescriptor yX7_ill.desc).map (fun d => d.parameters.length) = some 0 := by decide +kernel
set_option maxHeartbeats 4000000 in
set_option maxRecDepth 100000 in
theorem cm_X7_ill (l : Launch) (hlt : l.stackTraces = false) (D : va_G) (dA : Nat → ClassId) (ad0 : Nat → Nat) (A : Nat → Prop) (a0 : Nat) (o0 : Nat)  (σ0 : cl_S) (z : Unit ⊕ Nat) (σ' : cl_S) (e0 : cl_at ad0 σ0 a0 o0) (hF : cl_X7_ill o0 σ0 = some (z, σ')) : cx_Cv l yX7_ill cX7_ill 3 ({ frames := 6, cells := 7, slots := 56, locals := 135 }) D dA ad0 A [.ref a0] σ0 z σ' := by
  refine cx_in RX7 rfl (by decide) (Nat.le_of_ble_eq_true rfl) ?_
  intro p e s m below meth c ls S hr hlocks hini htab hv hl
  have hx := S.1
  have hb := S.2.1
  have hown := S.2.2.2.1
  have hts := S.2.2.2.2
  obtain ⟨hN, hK, hP, hD, hA, hZ⟩ := hv
  have V : cl_V D dA (ad0, cl_n σ0) ad0 A s.heap σ0 s s.heap [] := ⟨hN, hK, hP, hD, va_S.rf, hA, hZ, fun _ _ => rfl, Nat.le_refl _⟩
  obtain ⟨ad, V, e0⟩ : ∃ ad, cl_V D dA (ad0, cl_n σ0) ad A s.heap σ0 s s.heap [] ∧ cl_at ad σ0 a0 o0 := ⟨ad0, V, e0⟩
  replace hl : lv_has ls 3 [(0, .ref a0)] := hl
  unfold cl_X7_ill at hF
  have hJ47 : ∀ (σ : cl_S) (t1 : Bool) (ad : Nat → Nat) (H : Heap) (locs : List Loc) (ls : Array Slot), cl_X7_ill_J47 o0 σ t1 = some (z, σ') → cl_at ad σ a0 o0 → cl_at ad σ a0 o0 → cl_V D dA (ad0, cl_n σ0) ad A s.heap σ s H locs → lv_has ls 3 [(0, .ref a0)] → W p l e ({ frames := 6, cells := 7, slots := 56, locals := 135 }) s m ([.ref a0] : List Value).toArray below meth c H locs 0 0 (vx_MQ below (cx_Qv D dA ad0 A σ0 σ' z) (cx_X D dA ad0 A σ0 σ' z) ([.ref a0] : List Value).toArray s 7 56 A) (F0 m 47 ls [.int (dx_bI t1), .ref a0]) := by
    intro σ t1 ad H locs ls hF e0 e0 V hl
    unfold cl_X7_ill_J47 at hF
    refine lv_iconst (v := 2) hx hb dX7_ill_47 (by decide) ?_
    obtain ⟨hg, hF⟩ := dx_gd_some hF
    have k5 := of_decide_eq_true hg
    obtain ⟨z4, σ4, h4c, hF⟩ := dx_bx_some hF
    refine cx_cv (vx_runV (As := [.int (dx_bI t1), .int (2 : Int32)]) S (cm_X7_must l hlt D dA _ A a0 o0 t1 (2 : Int32) σ _ _ e0 h4c) (cwV 2 hts (lw_V q573 q575 qs10 q94 q576) rfl rfl rfl ⟨rfl, cd_X7_must⟩ ⟨Nat.le_of_ble_eq_true rfl, Nat.le_of_ble_eq_true rfl⟩) (cl_preV V [.int (dx_bI t1), .int (2 : Int32)] e0 k5 rfl (by decide)) rfl rfl hl.1 rfl (lv_room (Nat.le_of_ble_eq_true rfl)) dX7_ill_48 ⟨Nat.le_of_ble_eq_true rfl, Nat.le_of_ble_eq_true rfl⟩) V (fun x4 ce q9 ad _ _ hz hag hle hq9 V hce hcv hcl => ?_) (fun _ ad _ _ hz hag hle V => ?_)
    · subst hz
      replace hF := dx_xs_r hF
      replace e0 := e0.mv hag hle
      obtain ⟨hF1, hF2⟩ := dx_r2 hF
      subst hF1
      subst hF2
      exact cx_out V htab hlocks hq9 hce hcv hcl (by first | omega | (dsimp only; omega)) (by first | omega | (dsimp only; omega))
    · subst hz
      replace hF := dx_xs_l hF
      replace e0 := e0.mv hag hle
      refine lv_aload_n hx hb dX7_ill_51 rfl (lv_at hl 0 rfl) ?_
      refine lv_iconst (v := 0) hx hb dX7_ill_52 (by decide) ?_
      refine lv_aload_n hx hb dX7_ill_53 rfl (lv_at hl 0 rfl) ?_
      obtain ⟨hg, hF⟩ := dx_gd_some hF
      have k6 := of_decide_eq_true hg
      obtain ⟨hg, hF⟩ := dx_gd_some hF
      refine cl_gr S V e0 k6 rfl (by decide) in_X7 6 (by decide) rfl q534 rfl dX7_ill_54 (of_decide_eq_true hg) (fun bb7 ee7 => ?_)
      obtain ⟨hg, hF⟩ := dx_gd_some hF
      have k8 := of_decide_eq_true hg
      refine cl_gi S V ee7 k8 rfl (by decide) in_X2 0 (by decide) rfl q151 rfl dX7_ill_57 ?_
      refine lv_iconst (v := 1) hx hb dX7_ill_60 (by decide) ?_
      refine lv_isub hx hb dX7_ill_61 ?_
      obtain ⟨z9, σ9, h9c, hF⟩ := dx_bx_some hF
      refine cx_ci (vx_runV (As := [.int (0 : Int32), .int ((cl_i σ4 (cl_r σ4 o0 6) 0) - (1 : Int32))]) S (cm_X7_figure l hlt D dA _ A a0 o0 (0 : Int32) ((cl_i σ4 (cl_r σ4 o0 6) 0) - (1 : Int32)) σ4 _ _ e0 h9c) (cwV 2 hts (lw_V q605 q607 qs11 q94 q608) rfl rfl rfl ⟨rfl, cd_X7_figure⟩ ⟨Nat.le_of_ble_eq_true rfl, Nat.le_of_ble_eq_true rfl⟩) (cl_preV V [.int (0 : Int32), .int ((cl_i σ4 (cl_r σ4 o0 6) 0) - (1 : Int32))] e0 k6 rfl (by decide)) rfl rfl hl.1 rfl (lv_room (Nat.le_of_ble_eq_true rfl)) dX7_ill_62 ⟨Nat.le_of_ble_eq_true rfl, Nat.le_of_ble_eq_true rfl⟩) V (fun x9 ce q9 ad _ _ hz hag hle hq9 V hce hcv hcl => ?_) (fun r9 ad _ _ hz hag hle V => ?_)
      · subst hz
        replace hF := dx_xs_r hF
        replace e0 := e0.mv hag hle
        obtain ⟨hF1, hF2⟩ := dx_r2 hF
        subst hF1
        subst hF2
        exact cx_out V htab hlocks hq9 hce hcv hcl (by first | omega | (dsimp only; omega)) (by first | omega | (dsimp only; omega))
      · subst hz
        replace hF := dx_xs_l hF
        replace e0 := e0.mv hag hle
        refine lv_istore_n (lv' := [(1, .int r9), (0, .ref a0)]) hx hb dX7_ill_65 rfl hl (by decide) rfl (fun ls hl => ?_)
        refine lv_aload_n hx hb dX7_ill_66 rfl (lv_at hl 1 rfl) ?_
        refine lv_bipush (v := 44) hx hb dX7_ill_67 (by decide) ?_
        obtain ⟨hg, hF⟩ := dx_gd_some hF
        have k11 := of_decide_eq_true hg
        obtain ⟨z10, σ10, h10c, hF⟩ := dx_bx_some hF
        refine cx_cv (vx_runV (As := [.int (44 : Int32)]) S (cm_X7_sign l hlt D dA _ A a0 o0 (44 : Int32) σ9 _ _ e0 h10c) (cwV 1 hts (lw_V q609 q611 qs12 q94 q612) rfl rfl rfl ⟨rfl, cd_X7_sign⟩ ⟨Nat.le_of_ble_eq_true rfl, Nat.le_of_ble_eq_true rfl⟩) (cl_preV V [.int (44 : Int32)] e0 k11 rfl (by decide)) rfl rfl hl.1 rfl (lv_room (Nat.le_of_ble_eq_true rfl)) dX7_ill_69 ⟨Nat.le_of_ble_eq_true rfl, Nat.le_of_ble_eq_true rfl⟩) V (fun x10 ce q9 ad _ _ hz hag hle hq9 V hce hcv hcl => ?_) (fun _ ad _ _ hz hag hle V => ?_)
        · subst hz
          replace hF := dx_xs_r hF
          replace e0 := e0.mv hag hle
          obtain ⟨hF1, hF2⟩ := dx_r2 hF
          subst hF1
          subst hF2
          exact cx_out V htab hlocks hq9 hce hcv hcl (by first | omega | (dsimp only; omega)) (by first | omega | (dsimp only; omega))
        · subst hz
          replace hF := dx_xs_l hF
          replace e0 := e0.mv hag hle
          refine lv_aload_n hx hb dX7_ill_72 rfl (lv_at hl 1 rfl) ?_
          refine lv_iconst (v := 0) hx hb dX7_ill_73 (by decide) ?_
          refine lv_bipush (v := 30) hx hb dX7_ill_74 (by decide) ?_
          obtain ⟨hg, hF⟩ := dx_gd_some hF
          have k13 := of_decide_eq_true hg
          obtain ⟨z12, σ12, h12c, hF⟩ := dx_bx_some hF
          refine cx_ci (vx_runV (As := [.int (0 : Int32), .int (30 : Int32)]) S (cm_X7_figure l hlt D dA _ A a0 o0 (0 : Int32) (30 : Int32) σ10 _ _ e0 h12c) (cwV 2 hts (lw_V q605 q607 qs11 q94 q608) rfl rfl rfl ⟨rfl, cd_X7_figure⟩ ⟨Nat.le_of_ble_eq_true rfl, Nat.le_of_ble_eq_true rfl⟩) (cl_preV V [.int (0 : Int32), .int (30 : Int32)] e0 k13 rfl (by decide)) rfl rfl hl.1 rfl (lv_room (Nat.le_of_ble_eq_true rfl)) dX7_ill_76 ⟨Nat.le_of_ble_eq_true rfl, Nat.le_of_ble_eq_true rfl⟩) V (fun x12 ce q9 ad _ _ hz hag hle hq9 V hce hcv hcl => ?_) (fun r12 ad _ _ hz hag hle V => ?_)
          · subst hz
            replace hF := dx_xs_r hF
            replace e0 := e0.mv hag hle
            obtain ⟨hF1, hF2⟩ := dx_r2 hF
            subst hF1
            subst hF2
            exact cx_out V htab hlocks hq9 hce hcv hcl (by first | omega | (dsimp only; omega)) (by first | omega | (dsimp only; omega))
          · subst hz
            replace hF := dx_xs_l hF
            replace e0 := e0.mv hag hle
            refine lv_istore_n (lv' := [(2, .int r12), (1, .int r9), (0, .ref a0)]) hx hb dX7_ill_79 rfl hl (by decide) rfl (fun ls hl => ?_)
            refine lv_aload_n hx hb dX7_ill_80 rfl (lv_at hl 2 rfl) ?_
            refine lv_bipush (v := 59) hx hb dX7_ill_81 (by decide) ?_
            obtain ⟨hg, hF⟩ := dx_gd_some hF
            have k15 := of_decide_eq_true hg
            obtain ⟨z14, σ14, h14c, hF⟩ := dx_bx_some hF
            refine cx_cv (vx_runV (As := [.int (59 : Int32)]) S (cm_X7_sign l hlt D dA _ A a0 o0 (59 : Int32) σ12 _ _ e0 h14c) (cwV 1 hts (lw_V q609 q611 qs12 q94 q612) rfl rfl rfl ⟨rfl, cd_X7_sign⟩ ⟨Nat.le_of_ble_eq_true rfl, Nat.le_of_ble_eq_true rfl⟩) (cl_preV V [.int (59 : Int32)] e0 k15 rfl (by decide)) rfl rfl hl.1 rfl (lv_room (Nat.le_of_ble_eq_true rfl)) dX7_ill_83 ⟨Nat.le_of_ble_eq_true rfl, Nat.le_of_ble_eq_true rfl⟩) V (fun x14 ce q9 ad _ _ hz hag hle hq9 V hce hcv hcl => ?_) (fun _ ad _ _ hz hag hle V => ?_)
            · subst hz
              replace hF := dx_xs_r hF
              replace e0 := e0.mv hag hle
              obtain ⟨hF1, hF2⟩ := dx_r2 hF
              subst hF1
              subst hF2
              exact cx_out V htab hlocks hq9 hce hcv hcl (by first | omega | (dsimp only; omega)) (by first | omega | (dsimp only; omega))
            · subst hz
              replace hF := dx_xs_l hF
              replace e0 := e0.mv hag hle
              refine lv_aload_n hx hb dX7_ill_86 rfl (lv_at hl 2 rfl) ?_
              obtain ⟨hg, hF⟩ := dx_gd_some hF
              have k16 := of_decide_eq_true hg
              obtain ⟨hg, hF⟩ := dx_gd_some hF
              refine cl_gr S V e0 k16 rfl (by decide) in_X7 6 (by decide) rfl q534 rfl dX7_ill_87 (of_decide_eq_true hg) (fun bb17 ee17 => ?_)
              obtain ⟨hg, hF⟩ := dx_gd_some hF
              have k18 := of_decide_eq_true hg
              obtain ⟨hg, hF⟩ := dx_gd_some hF
              refine cl_gr S V ee17 k18 rfl (by decide) in_X2 5 (by decide) rfl q168 rfl dX7_ill_90 (of_decide_eq_true hg) (fun bb19 ee19 => ?_)
              refine lv_iload_n hx hb dX7_ill_93 rfl (lv_at hl 1 rfl) ?_
              refine lv_iload_n hx hb dX7_ill_94 rfl (lv_at hl 0 rfl) ?_
              obtain ⟨hg, hF⟩ := dx_gd_some hF
              have k20 := of_decide_eq_true hg
              obtain ⟨hg, hF⟩ := dx_gd_some hF
              refine cl_st S V ee19 k20 (dx_inb_in hg) dX7_ill_95 (fun _ _ V => ?_)
              obtain ⟨σ21, eσ21⟩ : ∃ x, x = (cl_wi σ14 (cl_r σ14 (cl_r σ14 o0 6) 5) r9.toNatClampNeg r12) := ⟨_, rfl⟩
              rw [← eσ21] at V
              replace hF := dx_let_e eσ21 hF
              replace e0 : cl_at ad σ21 a0 o0 := by rw [eσ21]; exact e0
              replace k16 : cl_k σ21 o0 = 7 := by rw [eσ21]; exact k16
              replace k18 : cl_k σ21 (cl_r σ14 o0 6) = 2 := by rw [eσ21]; exact k18
              replace k20 : cl_k σ21 (cl_r σ14 (cl_r σ14 o0 6) 5) = 20 := by rw [eσ21]; exact k20
              refine W.widen (k := 7) (n := 56) (by first | omega | (dsimp only; omega)) (by first | omega | (dsimp only; omega)) ?_
              obtain ⟨hF1, hF2⟩ := dx_r2 hF
              subst hF1
              subst hF2
              exact cx_rv S V hr hlocks dX7_ill_96
  refine lv_aload_n hx hb dX7_ill_0 rfl (lv_at hl 0 rfl) ?_
  obtain ⟨hg, hF⟩ := dx_gd_some hF
  have k2 := of_decide_eq_true hg
  obtain ⟨σ1, h1c, hF⟩ := dx_b1_some hF
  refine cl_cv (va_runV (As := []) S (cm_X7_next l D dA _ A a0 o0  σ0 _ e0 h1c) (cwV 0 hts (lw_V q555 q557 qs7 q94 q558) rfl rfl rfl ⟨rfl, cd_X7_next⟩ ⟨Nat.le_of_ble_eq_true rfl, Nat.le_of_ble_eq_true rfl⟩) (cl_preV V [] e0 k2 rfl (by decide)) rfl rfl hl.1 rfl (lv_room (Nat.le_of_ble_eq_true rfl)) dX7_ill_1 ⟨Nat.le_of_ble_eq_true rfl, Nat.le_of_ble_eq_true rfl⟩) V (fun ad _ _ hag hle V => ?_)
  replace e0 := e0.mv hag hle
  refine lv_aload_n hx hb dX7_ill_4 rfl (lv_at hl 0 rfl) ?_
  refine lv_aload_n hx hb dX7_ill_5 rfl (lv_at hl 0 rfl) ?_
  obtain ⟨hg, hF⟩ := dx_gd_some hF
  have k3 := of_decide_eq_true hg
  refine cl_gi S V e0 k3 rfl (by decide) in_X7 3 (by decide) rfl q531 rfl dX7_ill_6 ?_
  refine lv_iconst (v := 2) hx hb dX7_ill_9 (by decide) ?_
  refine lv_icmp_ne (tgt := 42) hx hb dX7_ill_10 (by decide) (fun hc => ?_) (fun hc => ?_)
  · replace hF := (if_neg hc).symm.trans hF
    refine lv_iconst (v := 1) hx hb dX7_ill_42 (by decide) ?_
    refine lv_goto (tgt := 47) hx hb dX7_ill_43 (by decide) ?_
    refine W.widen (k := 0) (n := 0) (by first | omega | (dsimp only; omega)) (by first | omega | (dsimp only; omega)) ?_
    exact hJ47 σ1 true _ _ _ _ hF e0 e0 V (lv_sub hl [0] rfl)
  · replace hF := (if_pos hc).symm.trans hF
    refine lv_aload_n hx hb dX7_ill_13 rfl (lv_at hl 0 rfl) ?_
    refine cl_gi S V e0 k3 rfl (by decide) in_X7 5 (by decide) rfl q533 rfl dX7_ill_14 ?_
    refine lv_aload_n hx hb dX7_ill_17 rfl (lv_at hl 0 rfl) ?_
    obtain ⟨hg, hF⟩ := dx_gd_some hF
    refine cl_gr S V e0 k3 rfl (by decide) in_X7 6 (by decide) rfl q534 rfl dX7_ill_18 (of_decide_eq_true hg) (fun bb22 ee22 => ?_)
    obtain ⟨hg, hF⟩ := dx_gd_some hF
    have k23 := of_decide_eq_true hg
    refine cl_gi S V ee22 k23 rfl (by decide) in_X2 0 (by decide) rfl q151 rfl dX7_ill_21 ?_
    refine lv_icmp_ge (tgt := 42) hx hb dX7_ill_24 (by decide) (fun hc => ?_) (fun hc => ?_)
    · replace hF := (if_pos hc).symm.trans hF
      refine lv_iconst (v := 1) hx hb dX7_ill_42 (by decide) ?_
      refine lv_goto (tgt := 47) hx hb dX7_ill_43 (by decide) ?_
      refine W.widen (k := 0) (n := 0) (by first | omega | (dsimp only; omega)) (by first | omega | (dsimp only; omega)) ?_
      exact hJ47 σ1 true _ _ _ _ hF e0 e0 V (lv_sub hl [0] rfl)
    · replace hF := (if_neg hc).symm.trans hF
      refine lv_aload_n hx hb dX7_ill_27 rfl (lv_at hl 0 rfl) ?_
      obtain ⟨hg, hF⟩ := dx_gd_some hF
      refine cl_gr S V e0 k3 rfl (by decide) in_X7 6 (by decide) rfl q534 rfl dX7_ill_28 (of_decide_eq_true hg) (fun bb24 ee24 => ?_)
      obtain ⟨hg, hF⟩ := dx_gd_some hF
      refine cl_gr S V ee24 k23 rfl (by decide) in_X2 5 (by decide) rfl q168 rfl dX7_ill_31 (of_decide_eq_true hg) (fun bb25 ee25 => ?_)
      refine lv_aload_n hx hb dX7_ill_34 rfl (lv_at hl 0 rfl) ?_
      refine cl_gi S V e0 k3 rfl (by decide) in_X7 5 (by decide) rfl q533 rfl dX7_ill_35 ?_
      obtain ⟨hg, hF⟩ := dx_gd_some hF
      have k26 := of_decide_eq_true hg
      obtain ⟨hg, hF⟩ := dx_gd_some hF
      refine cl_ld S V ee25 k26 (dx_inb_in hg) dX7_ill_38 ?_
      refine lv_if_ge (tgt := 46) hx hb dX7_ill_39 (by decide) (fun hc => ?_) (fun hc => ?_)
      · replace hF := (if_pos hc).symm.trans hF
        refine lv_iconst (v := 0) hx hb dX7_ill_46 (by decide) ?_
        refine W.widen (k := 0) (n := 0) (by first | omega | (dsimp only; omega)) (by first | omega | (dsimp only; omega)) ?_
        exact hJ47 σ1 false _ _ _ _ hF e0 e0 V (lv_sub hl [0] rfl)
      · replace hF := (if_neg hc).symm.trans hF
        refine lv_iconst (v := 1) hx hb dX7_ill_42 (by decide) ?_
        refine lv_goto (tgt := 47) hx hb dX7_ill_43 (by decide) ?_
        refine W.widen (k := 0) (n := 0) (by first | omega | (dsimp only; omega)) (by first | omega | (dsimp only; omega)) ?_
        exact hJ47 σ1 true _ _ _ _ hF e0 e0 V (lv_sub hl [0] rfl)
theorem cd_X16_init : yX16_init.cls ≠ "java/lang/invoke/MethodHandle" ∧ yX16_init.cls ≠ "java/lang/invoke/VarHandle" ∧ (parseMethodDescriptor yX16_init.desc).map (fun d => d.parameters.length) = some 2 := by decide +kernel
set_option maxHeartbeats 4000000 in
set_option maxRecDepth 100000 in
theorem cm_X16_init (l : Launch) (D : va_G) (dA : Nat → ClassId) (ad0 : Nat → Nat) (A : Nat → Prop) (a0 : Nat) (o0 : Nat) (p0 : Int32) (p1 : Int32) (σ0 : cl_S) (σ' : cl_S) (e0 : cl_at ad0 σ0 a0 o0) (hF : cl_X16_init o0 σ0 p0 p1 = some σ') : cl_Cv l yX16_init cX16_init 3 ({ frames := 1, cells := 0, slots := 0, locals := 20 }) D dA ad0 A [.ref a0, .int p0, .int p1] σ0 σ' := by
  refine cl_in RX16 rfl (by decide) (Nat.le_of_ble_eq_true rfl) ?_
  intro p e s m below meth c ls S hr hlocks hini hv hl
  have hx := S.1
  have hb := S.2.1
  have hown := S.2.2.2.1
  have hts := S.2.2.2.2
  obtain ⟨hN, hK, hP, hD, hA, hZ⟩ := hv
  have V : cl_V D dA (ad0, cl_n σ0) ad0 A s.heap σ0 s s.heap [] := ⟨hN, hK, hP, hD, va_S.rf, hA, hZ, fun _ _ => rfl, Nat.le_refl _⟩
  obtain ⟨ad, V, e0⟩ : ∃ ad, cl_V D dA (ad0, cl_n σ0) ad A s.heap σ0 s s.heap [] ∧ cl_at ad σ0 a0 o0 := ⟨ad0, V, e0⟩
  replace hl : lv_has ls 3 [(0, .ref a0), (1, .int p0), (2, .int p1)] := hl
  unfold cl_X16_init at hF
  refine lv_aload_n hx hb dX16_init_0 rfl (lv_at hl 0 rfl) ?_
  refine W.objInit hx hb hown (hts _ q991) (hts _ q123) (hts _ q124) rfl (by rw [S.2.2.1]; exact hl.1) rfl dX16_init_1 (Nat.le_of_ble_eq_true rfl) (Nat.le_of_ble_eq_true rfl) ?_
  refine lv_aload_n hx hb dX16_init_4 rfl (lv_at hl 0 rfl) ?_
  refine lv_iload_n hx hb dX16_init_5 rfl (lv_at hl 1 rfl) ?_
  obtain ⟨hg, hF⟩ := dx_gd_some hF
  have k1 := of_decide_eq_true hg
  refine cl_piF S V e0 k1 rfl (by decide) in_X16 tyX16 tyX16_ok nmX16 0 (by decide) rfl q992 rfl rfl rfl hini rfl dX16_init_6 (fun _ _ V => ?_)
  refine lv_aload_n hx hb dX16_init_9 rfl (lv_at hl 0 rfl) ?_
  refine lv_iload_n hx hb dX16_init_10 rfl (lv_at hl 2 rfl) ?_
  refine cl_piF S V e0 k1 rfl (by decide) in_X16 tyX16 tyX16_ok nmX16 1 (by decide) rfl q993 rfl rfl rfl hini rfl dX16_init_11 (fun _ _ V => ?_)
  replace hF := Option.some.inj hF
  subst hF
  exact cl_rv S V hr hlocks dX16_init_14
theorem cd_X10_window : yX10_window.cls ≠ "java/lang/invoke/MethodHandle" ∧ yX10_window.cls ≠ "java/lang/invoke/VarHandle" ∧ (parseMethodDescriptor yX10_window.desc).map (fun d => d.parameters.length) = some 1 := by decide +kernel
set_option maxHeartbeats 4000000 in
set_option maxRecDepth 100000 in
theorem cm_X10_window (l : Launch) (D : va_G) (dA : Nat → ClassId) (ad0 : Nat → Nat) (A : Nat → Prop) (a0 : Nat) (a1 : Nat) (o0 : Nat) (o1 : Nat)  (σ0 : cl_S) (r : Nat) (e0 : cl_at ad0 σ0 a0 o0) (e1 : cl_at ad0 σ0 a1 o1) (hF : cl_X10_window o0 o1 σ0 = some r) : cl_Cr l yX10_window cX10_window 2 (.object "DatedContacts$Window") ({ frames := 0, cells := 0, slots := 0, locals := 0 }) D dA ad0 A [.ref a0, .ref a1] σ0 r σ0 := by
  refine cl_in RX10 rfl (by decide) (Nat.le_of_ble_eq_true rfl) ?_
  intro p e s m below meth c ls S hr hlocks hini hv hl
  have hx := S.1
  have hb := S.2.1
  have hown := S.2.2.2.1
  have hts := S.2.2.2.2
  obtain ⟨hN, hK, hP, hD, hA, hZ⟩ := hv
  have V : cl_V D dA (ad0, cl_n σ0) ad0 A s.heap σ0 s s.heap [] := ⟨hN, hK, hP, hD, va_S.rf, hA, hZ, fun _ _ => rfl, Nat.le_refl _⟩
  obtain ⟨ad, V, e0, e1⟩ : ∃ ad, cl_V D dA (ad0, cl_n σ0) ad A s.heap σ0 s s.heap [] ∧ cl_at ad σ0 a0 o0 ∧ cl_at ad σ0 a1 o1 := ⟨ad0, V, e0, e1⟩
  replace hl : lv_has ls 2 [(0, .ref a0), (1, .ref a1)] := hl
  unfold cl_X10_window at hF
  refine lv_aload_n hx hb dX10_window_0 rfl (lv_at hl 1 rfl) ?_
  replace hF := Option.some.inj hF
  subst hF
  exact cl_rr S V hr (Or.inl ⟨_, rfl⟩) hlocks e1 dX10_window_1
theorem cd_X16_least : yX16_least.cls ≠ "java/lang/invoke/MethodHandle" ∧ yX16_least.cls ≠ "java/lang/invoke/VarHandle" ∧ (parseMethodDescriptor yX16_least.desc).map (fun d => d.parameters.length) = some 0 := by decide +kernel
set_option maxHeartbeats 4000000 in
set_option maxRecDepth 100000 in
theorem cm_X16_least (l : Launch) (D : va_G) (dA : Nat → ClassId) (ad0 : Nat → Nat) (A : Nat → Prop) (a0 : Nat) (o0 : Nat)  (σ0 : cl_S) (r : Int32) (e0 : cl_at ad0 σ0 a0 o0) (hF : cl_X16_least o0 σ0 = some r) : cl_Ci l yX16_least cX16_least 1 .int ({ frames := 0, cells := 0, slots := 0, locals := 0 }) D dA ad0 A [.ref a0] σ0 r σ0 := by
  refine cl_in RX16 rfl (by decide) (Nat.le_of_ble_eq_true rfl) ?_
  intro p e s m below meth c ls S hr hlocks hini hv hl
  have hx := S.1
  have hb := S.2.1
  have hown := S.2.2.2.1
  have hts := S.2.2.2.2
  obtain ⟨hN, hK, hP, hD, hA, hZ⟩ := hv
  have V : cl_V D dA (ad0, cl_n σ0) ad0 A s.heap σ0 s s.heap [] := ⟨hN, hK, hP, hD, va_S.rf, hA, hZ, fun _ _ => rfl, Nat.le_refl _⟩
  obtain ⟨ad, V, e0⟩ : ∃ ad, cl_V D dA (ad0, cl_n σ0) ad A s.heap σ0 s s.heap [] ∧ cl_at ad σ0 a0 o0 := ⟨ad0, V, e0⟩
  replace hl : lv_has ls 1 [(0, .ref a0)] := hl
  unfold cl_X16_least at hF
  refine lv_aload_n hx hb dX16_least_0 rfl (lv_at hl 0 rfl) ?_
  obtain ⟨hg, hF⟩ := dx_gd_some hF
  have k1 := of_decide_eq_true hg
  refine cl_gi S V e0 k1 rfl (by decide) in_X16 0 (by decide) rfl q992 rfl dX16_least_1 ?_
  replace hF := Option.some.inj hF
  subst hF
  exact cl_ri S V hr hlocks rfl dX16_least_4
theorem cd_X16_most : yX16_most.cls ≠ "java/lang/invoke/MethodHandle" ∧ yX16_most.cls ≠ "java/lang/invoke/VarHandle" ∧ (parseMethodDescriptor yX16_most.desc).map (fun d => d.parameters.length) = some 0 := by decide +kernel
set_option maxHeartbeats 4000000 in
set_option maxRecDepth 100000 in
theorem cm_X16_most (l : Launch) (D : va_G) (dA : Nat → ClassId) (ad0 : Nat → Nat) (A : Nat → Prop) (a0 : Nat) (o0 : Nat)  (σ0 : cl_S) (r : Int32) (e0 : cl_at ad0 σ0 a0 o0) (hF : cl_X16_most o0 σ0 = some r) : cl_Ci l yX16_most cX16_most 1 .int ({ frames := 0, cells := 0, slots := 0, locals := 0 }) D dA ad0 A [.ref a0] σ0 r σ0 := by
  refine cl_in RX16 rfl (by decide) (Nat.le_of_ble_eq_true rfl) ?_
  intro p e s m below meth c ls S hr hlocks hini hv hl
  have hx := S.1
  have hb := S.2.1
  have hown := S.2.2.2.1
  have hts := S.2.2.2.2
  obtain ⟨hN, hK, hP, hD, hA, hZ⟩ := hv
  have V : cl_V D dA (ad0, cl_n σ0) ad0 A s.heap σ0 s s.heap [] := ⟨hN, hK, hP, hD, va_S.rf, hA, hZ, fun _ _ => rfl, Nat.le_refl _⟩
  obtain ⟨ad, V, e0⟩ : ∃ ad, cl_V D dA (ad0, cl_n σ0) ad A s.heap σ0 s s.heap [] ∧ cl_at ad σ0 a0 o0 := ⟨ad0, V, e0⟩
  replace hl : lv_has ls 1 [(0, .ref a0)] := hl
  unfold cl_X16_most at hF
  refine lv_aload_n hx hb dX16_most_0 rfl (lv_at hl 0 rfl) ?_
  obtain ⟨hg, hF⟩ := dx_gd_some hF
  have k1 := of_decide_eq_true hg
  refine cl_gi S V e0 k1 rfl (by decide) in_X16 1 (by decide) rfl q993 rfl dX16_most_1 ?_
  replace hF := Option.some.inj hF
  subst hF
  exact cl_ri S V hr hlocks rfl dX16_most_4
theorem cd_X12_window : yX12_window.cls ≠ "java/lang/invoke/MethodHandle" ∧ yX12_window.cls ≠ "java/lang/invoke/VarHandle" ∧ (parseMethodDescriptor yX12_window.desc).map (fun d => d.parameters.length) = some 1 := by decide +kernel
set_option maxHeartbeats 4000000 in
set_option maxRecDepth 100000 in
theorem cm_X12_window (l : Launch) (D : va_G) (dA : Nat → ClassId) (ad0 : Nat → Nat) (A : Nat → Prop) (a0 : Nat) (a1 : Nat) (o0 : Nat) (o1 : Nat)  (σ0 : cl_S) (r : Nat) (σ' : cl_S) (e0 : cl_at ad0 σ0 a0 o0) (e1 : cl_at ad0 σ0 a1 o1) (hF : cl_X12_window o0 o1 σ0 = some (r, σ')) : cl_Cr l yX12_window cX12_window 2 (.object "DatedContacts$Window") ({ frames := 2, cells := 1, slots := 2, locals := 42 }) D dA ad0 A [.ref a0, .ref a1] σ0 r σ' := by
  refine cl_in RX12 rfl (by decide) (Nat.le_of_ble_eq_true rfl) ?_
  intro p e s m below meth c ls S hr hlocks hini hv hl
  have hx := S.1
  have hb := S.2.1
  have hown := S.2.2.2.1
  have hts := S.2.2.2.2
  obtain ⟨hN, hK, hP, hD, hA, hZ⟩ := hv
  have V : cl_V D dA (ad0, cl_n σ0) ad0 A s.heap σ0 s s.heap [] := ⟨hN, hK, hP, hD, va_S.rf, hA, hZ, fun _ _ => rfl, Nat.le_refl _⟩
  obtain ⟨ad, V, e0, e1⟩ : ∃ ad, cl_V D dA (ad0, cl_n σ0) ad A s.heap σ0 s s.heap [] ∧ cl_at ad σ0 a0 o0 ∧ cl_at ad σ0 a1 o1 := ⟨ad0, V, e0, e1⟩
  replace hl : lv_has ls 2 [(0, .ref a0), (1, .ref a1)] := hl
  unfold cl_X12_window at hF
  refine cl_new S V rfl (by decide) in_X16 tyX16 tyX16_ok cl_dfX16 q1033 q987 q111 (Nat.le_of_ble_eq_true rfl) (Nat.le_of_ble_eq_true rfl) dX12_window_0 (fun bb1 ad _ hag ee1 V => ?_)
  replace e0 := cl_at.nw 14 0 e0 hag
  replace e1 := cl_at.nw 14 0 e1 hag
  have k1 : cl_k (cl_nw σ0 14 0) (cl_n σ0 + 1) = 14 := cl_k_nw
  refine lv_dup hx hb dX12_window_3 rfl ?_
  refine lv_aload_n hx hb dX12_window_4 rfl (lv_at hl 0 rfl) ?_
  refine lv_aload_n hx hb dX12_window_5 rfl (lv_at hl 1 rfl) ?_
  obtain ⟨hg, hF⟩ := dx_gd_some hF
  have k3 := of_decide_eq_true hg
  obtain ⟨r2, h2c, hF⟩ := dx_b1_some hF
  obtain ⟨hg, hF⟩ := dx_gd_some hF
  refine cl_cr (cl_runSU (n := 1) (V.2.1.1 10 _ rfl).2 (As := [.ref a1]) S (cm_X10_window l D dA _ A a0 a1 o0 o1  (cl_nw σ0 14 0) _ e0 e1 h2c) rfl rfl q1034 q1006 q948 (Or.inr q940) q1000 q105 q1045 rfl (by decide +kernel) ⟨Nat.le_of_ble_eq_true rfl, Nat.le_of_ble_eq_true rfl⟩ (cl_preV V [.ref a1] e0 k3 rfl (by decide)) rfl rfl hl.1 rfl (lv_room (Nat.le_of_ble_eq_true rfl)) dX12_window_6 ⟨Nat.le_of_ble_eq_true rfl, Nat.le_of_ble_eq_true rfl⟩) V (of_decide_eq_true hg) (fun bb2 ad _ _ hag hle ee2 V => ?_)
  replace ee1 := ee1.mv hag hle
  replace e0 := e0.mv hag hle
  replace e1 := e1.mv hag hle
  obtain ⟨hg, hF⟩ := dx_gd_some hF
  have k5 := of_decide_eq_true hg
  obtain ⟨r4, h4c, hF⟩ := dx_b1_some hF
  refine cl_cFi (va_runF (V.2.1.1 14 _ rfl).2 (As := []) S (cm_X16_least l D dA _ A bb2 r2  (cl_nw σ0 14 0) _ ee2 h4c) (va_cwF 0 hts (lw_F q1036 q1014 q1016 q111 q1018) rfl rfl rfl (V.1.2.1 _ cf_Told_least) (by decide +kernel) ⟨Nat.le_of_ble_eq_true rfl, Nat.le_of_ble_eq_true rfl⟩) (cl_preV V [] ee2 k5 rfl (by decide)) rfl rfl hl.1 rfl (lv_room (Nat.le_of_ble_eq_true rfl)) dX12_window_9 ⟨Nat.le_of_ble_eq_true rfl, Nat.le_of_ble_eq_true rfl⟩) V (fun ad _ _ hag hle V => ?_)
  replace ee1 := ee1.mv hag hle
  replace e0 := e0.mv hag hle
  replace e1 := e1.mv hag hle
  refine lv_iconst (v := 1) hx hb dX12_window_14 (by decide) ?_
  refine lv_iadd hx hb dX12_window_15 ?_
  refine lv_aload_n hx hb dX12_window_16 rfl (lv_at hl 0 rfl) ?_
  refine lv_aload_n hx hb dX12_window_17 rfl (lv_at hl 1 rfl) ?_
  obtain ⟨r6, h6c, hF⟩ := dx_b1_some hF
  obtain ⟨hg, hF⟩ := dx_gd_some hF
  refine cl_cr (cl_runSU (n := 1) (V.2.1.1 10 _ rfl).2 (As := [.ref a1]) S (cm_X10_window l D dA _ A a0 a1 o0 o1  (cl_nw σ0 14 0) _ e0 e1 h6c) rfl rfl q1034 q1006 q948 (Or.inr q940) q1000 q105 q1045 rfl (by decide +kernel) ⟨Nat.le_of_ble_eq_true rfl, Nat.le_of_ble_eq_true rfl⟩ (cl_preV V [.ref a1] e0 k3 rfl (by decide)) rfl rfl hl.1 rfl (lv_room (Nat.le_of_ble_eq_true rfl)) dX12_window_18 ⟨Nat.le_of_ble_eq_true rfl, Nat.le_of_ble_eq_true rfl⟩) V (of_decide_eq_true hg) (fun bb6 ad _ _ hag hle ee6 V => ?_)
  replace ee1 := ee1.mv hag hle
  replace e0 := e0.mv hag hle
  replace e1 := e1.mv hag hle
  obtain ⟨hg, hF⟩ := dx_gd_some hF
  have k8 := of_decide_eq_true hg
  obtain ⟨r7, h7c, hF⟩ := dx_b1_some hF
  refine cl_cFi (va_runF (V.2.1.1 14 _ rfl).2 (As := []) S (cm_X16_most l D dA _ A bb6 r6  (cl_nw σ0 14 0) _ ee6 h7c) (va_cwF 0 hts (lw_F q1038 q1023 q1025 q111 q1027) rfl rfl rfl (V.1.2.1 _ cf_Told_most) (by decide +kernel) ⟨Nat.le_of_ble_eq_true rfl, Nat.le_of_ble_eq_true rfl⟩) (cl_preV V [] ee6 k8 rfl (by decide)) rfl rfl hl.1 rfl (lv_room (Nat.le_of_ble_eq_true rfl)) dX12_window_21 ⟨Nat.le_of_ble_eq_true rfl, Nat.le_of_ble_eq_true rfl⟩) V (fun ad _ _ hag hle V => ?_)
  replace ee1 := ee1.mv hag hle
  replace e0 := e0.mv hag hle
  replace e1 := e1.mv hag hle
  refine lv_iconst (v := 1) hx hb dX12_window_26 (by decide) ?_
  refine lv_iadd hx hb dX12_window_27 ?_
  obtain ⟨σ9, h9c, hF⟩ := dx_b1_some hF
  refine cl_cv (va_runI (As := [.int (r4 + (1 : Int32)), .int (r7 + (1 : Int32))]) S (cm_X16_init l D dA _ A bb1 (cl_n σ0 + 1) (r4 + (1 : Int32)) (r7 + (1 : Int32)) (cl_nw σ0 14 0) _ ee1 h9c) (cwI 2 hts (lw_meth q990) rfl rfl rfl (hts _ q111) (hts _ q1039) (hts _ q989) rfl cd_X16_init ⟨Nat.le_of_ble_eq_true rfl, Nat.le_of_ble_eq_true rfl⟩) (cl_preS V [.ref bb1, .int (r4 + (1 : Int32)), .int (r7 + (1 : Int32))]) rfl rfl hl.1 rfl (lv_room (Nat.le_of_ble_eq_true rfl)) dX12_window_28 ⟨Nat.le_of_ble_eq_true rfl, Nat.le_of_ble_eq_true rfl⟩) V (fun ad _ _ hag hle V => ?_)
  replace ee1 := ee1.mv hag hle
  replace e0 := e0.mv hag hle
  replace e1 := e1.mv hag hle
  refine W.widen (k := 1) (n := 2) (by first | omega | (dsimp only; omega)) (by first | omega | (dsimp only; omega)) ?_
  obtain ⟨hF1, hF2⟩ := dx_r2 hF
  subst hF1
  subst hF2
  exact cl_rr S V hr (Or.inl ⟨_, rfl⟩) hlocks ee1 dX12_window_31
