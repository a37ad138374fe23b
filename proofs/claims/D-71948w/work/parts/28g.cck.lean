/-! String.checkIndex, Preconditions.checkIndex: within bounds -/
theorem cd_J15_checkIndex : yJ15_checkIndex.cls ≠ "java/lang/invoke/MethodHandle" ∧ yJ15_checkIndex.cls ≠ "java/lang/invoke/VarHandle" ∧ (parseMethodDescriptor yJ15_checkIndex.desc).map (fun d => d.parameters.length) = some 3 := by decide +kernel
theorem cd_J4_checkIndex : yJ4_checkIndex.cls ≠ "java/lang/invoke/MethodHandle" ∧ yJ4_checkIndex.cls ≠ "java/lang/invoke/VarHandle" ∧ (parseMethodDescriptor yJ4_checkIndex.desc).map (fun d => d.parameters.length) = some 2 := by decide +kernel
set_option maxHeartbeats 4000000 in
theorem cm_J15_checkIndex_n (l : Launch) (p0 p1 : Int32) (h1 : ¬ p0 < 0) (h2 : p0 < p1) : dx_Pi l yJ15_checkIndex cJ15_checkIndex 3 .int ({ frames := 0, cells := 0, slots := 0, locals := 0 }) [.int p0, .int p1, .null] p0 := by
  refine dx_in RJ15 rfl (by decide) (Nat.le_of_ble_eq_true rfl) ?_
  intro p e s m below meth c ls S hr hlocks hv hl
  have hx := S.1
  have hb := S.2.1
  replace hl : lv_has ls 3 [(0, .int p0), (1, .int p1), (2, .null)] := hl
  refine lv_iload_n hx hb dJ15_checkIndex_0 rfl (lv_at hl 0 rfl) ?_
  refine lv_if_lt (tgt := 9) hx hb dJ15_checkIndex_1 (by decide) (fun hc => absurd hc h1) (fun hc => ?_)
  refine lv_iload_n hx hb dJ15_checkIndex_4 rfl (lv_at hl 0 rfl) ?_
  refine lv_iload_n hx hb dJ15_checkIndex_5 rfl (lv_at hl 1 rfl) ?_
  refine lv_icmp_lt (tgt := 16) hx hb dJ15_checkIndex_6 (by decide) (fun hc => ?_) (fun hc => absurd h2 hc)
  refine lv_iload_n hx hb dJ15_checkIndex_16 rfl (lv_at hl 0 rfl) ?_
  exact dx_rPi S hr hlocks rfl dJ15_checkIndex_17
set_option maxHeartbeats 4000000 in
theorem cm_J15_checkIndex_r (l : Launch) (p0 p1 : Int32) (t : Nat) (h1 : ¬ p0 < 0) (h2 : p0 < p1) : dx_Pi l yJ15_checkIndex cJ15_checkIndex 3 .int ({ frames := 0, cells := 0, slots := 0, locals := 0 }) [.int p0, .int p1, .ref t] p0 := by
  refine dx_in RJ15 rfl (by decide) (Nat.le_of_ble_eq_true rfl) ?_
  intro p e s m below meth c ls S hr hlocks hv hl
  have hx := S.1
  have hb := S.2.1
  replace hl : lv_has ls 3 [(0, .int p0), (1, .int p1), (2, .ref t)] := hl
  refine lv_iload_n hx hb dJ15_checkIndex_0 rfl (lv_at hl 0 rfl) ?_
  refine lv_if_lt (tgt := 9) hx hb dJ15_checkIndex_1 (by decide) (fun hc => absurd hc h1) (fun hc => ?_)
  refine lv_iload_n hx hb dJ15_checkIndex_4 rfl (lv_at hl 0 rfl) ?_
  refine lv_iload_n hx hb dJ15_checkIndex_5 rfl (lv_at hl 1 rfl) ?_
  refine lv_icmp_lt (tgt := 16) hx hb dJ15_checkIndex_6 (by decide) (fun hc => ?_) (fun hc => absurd h2 hc)
  refine lv_iload_n hx hb dJ15_checkIndex_16 rfl (lv_at hl 0 rfl) ?_
  exact dx_rPi S hr hlocks rfl dJ15_checkIndex_17
set_option maxHeartbeats 4000000 in
theorem cm_J4_checkIndex (l : Launch) (D : va_G) (dA : Nat → ClassId) (ad0 : Nat → Nat) (A : Nat → Prop) (p0 p1 : Int32) (σ0 : cl_S) (hF : cl_J4_checkIndex σ0 p0 p1 = some ()) : cl_Cv l yJ4_checkIndex cJ4_checkIndex 2 ({ frames := 1, cells := 0, slots := 0, locals := 40 }) D dA ad0 A [.int p0, .int p1] σ0 σ0 := by
  refine cl_in RJ4 rfl (by decide) (Nat.le_of_ble_eq_true rfl) ?_
  intro p e s m below meth c ls S hr hlocks hini hv hl
  have hx := S.1
  have hb := S.2.1
  have hown := S.2.2.2.1
  have hts := S.2.2.2.2
  obtain ⟨hN, hK, hP, hD, hA, hZ⟩ := hv
  have V : cl_V D dA (ad0, cl_n σ0) ad0 A s.heap σ0 s s.heap [] := ⟨hN, hK, hP, hD, va_S.rf, hA, hZ, fun _ _ => rfl, Nat.le_refl _⟩
  replace hl : lv_has ls 2 [(0, .int p0), (1, .int p1)] := hl
  unfold cl_J4_checkIndex at hF
  obtain ⟨h1, h2⟩ := of_decide_eq_true (dx_gd_some hF).1
  refine lv_iload_n hx hb dJ4_checkIndex_0 rfl (lv_at hl 0 rfl) ?_
  refine lv_iload_n hx hb dJ4_checkIndex_1 rfl (lv_at hl 1 rfl) ?_
  rcases V.1.x.2.2.1.2.2.2.2.2 with hZ1 | ⟨t, hZ1⟩
  · refine va_gets hx hb hZ1 V.2.2.2.2.1 hown (hts _ q715) (fun _ h => h) dJ4_checkIndex_2 ?_
    refine dx_cPi S [.int p0, .int p1, .null] (cm_J15_checkIndex_n l p0 p1 h1 h2) (va_cwS 3 hts (lw_S q791 q792 q102 q793) rfl rfl rfl cd_J15_checkIndex ⟨Nat.le_of_ble_eq_true rfl, Nat.le_of_ble_eq_true rfl⟩) rfl rfl hl.1 (Nat.le_of_ble_eq_true rfl) dJ4_checkIndex_5 ⟨Nat.le_of_ble_eq_true rfl, Nat.le_of_ble_eq_true rfl⟩ ?_
    refine lv_pop hx hb dJ4_checkIndex_8 rfl ?_
    exact cl_rv S V hr hlocks dJ4_checkIndex_9
  · refine va_gets hx hb hZ1 V.2.2.2.2.1 hown (hts _ q715) (fun _ h => h) dJ4_checkIndex_2 ?_
    refine dx_cPi S [.int p0, .int p1, .ref t] (cm_J15_checkIndex_r l p0 p1 t h1 h2) (va_cwS 3 hts (lw_S q791 q792 q102 q793) rfl rfl rfl cd_J15_checkIndex ⟨Nat.le_of_ble_eq_true rfl, Nat.le_of_ble_eq_true rfl⟩) rfl rfl hl.1 (Nat.le_of_ble_eq_true rfl) dJ4_checkIndex_5 ⟨Nat.le_of_ble_eq_true rfl, Nat.le_of_ble_eq_true rfl⟩ ?_
    refine lv_pop hx hb dJ4_checkIndex_8 rfl ?_
    exact cl_rv S V hr hlocks dJ4_checkIndex_9
