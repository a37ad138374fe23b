/-! the class side read back and walked (printed by gen/clmain.py) -/
theorem cd_X0_taken : yX0_taken.cls ≠ "java/lang/invoke/MethodHandle" ∧ yX0_taken.cls ≠ "java/lang/invoke/VarHandle" ∧ (parseMethodDescriptor yX0_taken.desc).map (fun d => d.parameters.length) = some 2 := by decide +kernel
set_option maxHeartbeats 4000000 in
set_option maxRecDepth 100000 in
theorem cm_X0_taken (l : Launch) (hlt : l.stackTraces = false) (D : va_G) (dA : Nat → ClassId) (ad0 : Nat → Nat) (A : Nat → Prop) (a0 : Nat) (o0 : Nat) (p1 : Int32) (σ0 : cl_S) (z : Nat ⊕ Nat) (σ' : cl_S) (e0 : cl_at ad0 σ0 a0 o0) (hF : cl_X0_taken o0 σ0 p1 = some (z, σ')) : cx_Cr l yX0_taken cX0_taken 2 (.object "DatedContacts$Person") ({ frames := 9, cells := 3, slots := 910, locals := 10248 }) D dA ad0 A [.ref a0, .int p1] σ0 z σ' := by
  refine cx_in RX0 rfl (by decide) (Nat.le_of_ble_eq_true rfl) ?_
  intro p e s m below meth c ls S hr hlocks hini htab hv hl
  have hx := S.1
  have hb := S.2.1
  have hown := S.2.2.2.1
  have hts := S.2.2.2.2
  obtain ⟨hN, hK, hP, hD, hA, hZ⟩ := hv
  have V : cl_V D dA (ad0, cl_n σ0) ad0 A s.heap σ0 s s.heap [] := ⟨hN, hK, hP, hD, va_S.rf, hA, hZ, fun _ _ => rfl, Nat.le_refl _⟩
  obtain ⟨ad, V, e0⟩ : ∃ ad, cl_V D dA (ad0, cl_n σ0) ad A s.heap σ0 s s.heap [] ∧ cl_at ad σ0 a0 o0 := ⟨ad0, V, e0⟩
  replace hl : lv_has ls 2 [(0, .ref a0), (1, .int p1)] := hl
  unfold cl_X0_taken at hF
  refine lv_iload_n hx hb dX0_taken_0 rfl (lv_at hl 1 rfl) ?_
  by_cases hs0 : p1 = (0 : Int32)
  · replace hF := (if_pos hs0).symm.trans hF
    refine lv_tableIn (tgt := 36) hx hb dX0_taken_1 (by rw [hs0]; decide) (by rw [hs0]; decide) (by rw [hs0]; rfl) (by decide) ?_
    refine lv_aload_n hx hb dX0_taken_36 rfl (lv_at hl 0 rfl) ?_
    by_cases hk : cl_k σ0 o0 = 9
    · replace hF := (if_pos hk).symm.trans hF
      refine va_castY hx hb hown (hts _ q1469) (V.1.1 _ cn_q2072) (cl_recv V e0 hk rfl (by decide)) dX0_taken_37 ?_
      refine lv_goto (tgt := 75) hx hb dX0_taken_40 (by decide) ?_
      refine W.widen (k := 3) (n := 910) (by first | omega | (dsimp only; omega)) (by first | omega | (dsimp only; omega)) ?_
      obtain ⟨hF1, hF2⟩ := dx_r2 hF
      subst hF1
      subst hF2
      exact cx_rr S V hr (Or.inl ⟨_, rfl⟩) hlocks e0 dX0_taken_75
    replace hF := (if_neg hk).symm.trans hF
    clear hk
    by_cases hk : cl_k σ0 o0 = 10
    · replace hF := (if_pos hk).symm.trans hF
      refine va_castY hx hb hown (hts _ q1469) (V.1.1 _ cn_q2071) (cl_recv V e0 hk rfl (by decide)) dX0_taken_37 ?_
      refine lv_goto (tgt := 75) hx hb dX0_taken_40 (by decide) ?_
      refine W.widen (k := 3) (n := 910) (by first | omega | (dsimp only; omega)) (by first | omega | (dsimp only; omega)) ?_
      obtain ⟨hF1, hF2⟩ := dx_r2 hF
      subst hF1
      subst hF2
      exact cx_rr S V hr (Or.inl ⟨_, rfl⟩) hlocks e0 dX0_taken_75
    replace hF := (if_neg hk).symm.trans hF
    clear hk
    by_cases hk : cl_k σ0 o0 = 11
    · replace hF := (if_pos hk).symm.trans hF
      refine va_castY hx hb hown (hts _ q1469) (V.1.1 _ cn_q2070) (cl_recv V e0 hk rfl (by decide)) dX0_taken_37 ?_
      refine lv_goto (tgt := 75) hx hb dX0_taken_40 (by decide) ?_
      refine W.widen (k := 3) (n := 910) (by first | omega | (dsimp only; omega)) (by first | omega | (dsimp only; omega)) ?_
      obtain ⟨hF1, hF2⟩ := dx_r2 hF
      subst hF1
      subst hF2
      exact cx_rr S V hr (Or.inl ⟨_, rfl⟩) hlocks e0 dX0_taken_75
    replace hF := (if_neg hk).symm.trans hF
    clear hk
    by_cases hk : cl_k σ0 o0 = 12
    · replace hF := (if_pos hk).symm.trans hF
      refine va_castY hx hb hown (hts _ q1469) (V.1.1 _ cn_q2074) (cl_recv V e0 hk rfl (by decide)) dX0_taken_37 ?_
      refine lv_goto (tgt := 75) hx hb dX0_taken_40 (by decide) ?_
      refine W.widen (k := 3) (n := 910) (by first | omega | (dsimp only; omega)) (by first | omega | (dsimp only; omega)) ?_
      obtain ⟨hF1, hF2⟩ := dx_r2 hF
      subst hF1
      subst hF2
      exact cx_rr S V hr (Or.inl ⟨_, rfl⟩) hlocks e0 dX0_taken_75
    replace hF := (if_neg hk).symm.trans hF
    clear hk
    by_cases hk : cl_k σ0 o0 = 13
    · replace hF := (if_pos hk).symm.trans hF
      refine va_castY hx hb hown (hts _ q1469) (V.1.1 _ cn_q2073) (cl_recv V e0 hk rfl (by decide)) dX0_taken_37 ?_
      refine lv_goto (tgt := 75) hx hb dX0_taken_40 (by decide) ?_
      refine W.widen (k := 3) (n := 910) (by first | omega | (dsimp only; omega)) (by first | omega | (dsimp only; omega)) ?_
      obtain ⟨hF1, hF2⟩ := dx_r2 hF
      subst hF1
      subst hF2
      exact cx_rr S V hr (Or.inl ⟨_, rfl⟩) hlocks e0 dX0_taken_75
    replace hF := (if_neg hk).symm.trans hF
    clear hk
    cases hF
  replace hF := (if_neg hs0).symm.trans hF
  by_cases hs1 : p1 = (1 : Int32)
  · replace hF := (if_pos hs1).symm.trans hF
    refine lv_tableIn (tgt := 43) hx hb dX0_taken_1 (by rw [hs1]; decide) (by rw [hs1]; decide) (by rw [hs1]; rfl) (by decide) ?_
    refine lv_aload_n hx hb dX0_taken_43 rfl (lv_at hl 0 rfl) ?_
    by_cases hk : cl_k σ0 o0 = 9
    · replace hF := (if_pos hk).symm.trans hF
      refine va_castE hx hb hown (hts _ q928) (cl_recv V e0 hk rfl (by decide)) dX0_taken_44 ?_
      refine lv_goto (tgt := 75) hx hb dX0_taken_47 (by decide) ?_
      refine W.widen (k := 3) (n := 910) (by first | omega | (dsimp only; omega)) (by first | omega | (dsimp only; omega)) ?_
      obtain ⟨hF1, hF2⟩ := dx_r2 hF
      subst hF1
      subst hF2
      exact cx_rr S V hr (Or.inl ⟨_, rfl⟩) hlocks e0 dX0_taken_75
    replace hF := (if_neg hk).symm.trans hF
    clear hk
    by_cases hk : cl_k σ0 o0 = 10
    · replace hF := (if_pos hk).symm.trans hF
      refine va_castY hx hb hown (hts _ q928) (V.1.1 _ cn_q2076) (cl_recv V e0 hk rfl (by decide)) dX0_taken_44 ?_
      refine lv_goto (tgt := 75) hx hb dX0_taken_47 (by decide) ?_
      refine W.widen (k := 3) (n := 910) (by first | omega | (dsimp only; omega)) (by first | omega | (dsimp only; omega)) ?_
      obtain ⟨hF1, hF2⟩ := dx_r2 hF
      subst hF1
      subst hF2
      exact cx_rr S V hr (Or.inl ⟨_, rfl⟩) hlocks e0 dX0_taken_75
    replace hF := (if_neg hk).symm.trans hF
    clear hk
    by_cases hk : cl_k σ0 o0 = 11
    · replace hF := (if_pos hk).symm.trans hF
      refine va_castY hx hb hown (hts _ q928) (V.1.1 _ cn_q2075) (cl_recv V e0 hk rfl (by decide)) dX0_taken_44 ?_
      refine lv_goto (tgt := 75) hx hb dX0_taken_47 (by decide) ?_
      refine W.widen (k := 3) (n := 910) (by first | omega | (dsimp only; omega)) (by first | omega | (dsimp only; omega)) ?_
      obtain ⟨hF1, hF2⟩ := dx_r2 hF
      subst hF1
      subst hF2
      exact cx_rr S V hr (Or.inl ⟨_, rfl⟩) hlocks e0 dX0_taken_75
    replace hF := (if_neg hk).symm.trans hF
    clear hk
    by_cases hk : cl_k σ0 o0 = 12
    · replace hF := (if_pos hk).symm.trans hF
      refine cx_ccast S V hlt hlocks hl.1 (Nat.le_of_ble_eq_true rfl) ⟨Nat.le_of_ble_eq_true rfl, Nat.le_of_ble_eq_true rfl⟩ ⟨Nat.le_of_ble_eq_true rfl, Nat.le_of_ble_eq_true rfl⟩ e0 hk rfl (by decide) q928 (V.1.2.2.2.2.2.2.1.2.2.1 _ nc_16) q958 ⟨_, q929⟩ (by decide +kernel) (by decide +kernel) (by decide +kernel) (by decide +kernel) dX0_taken_44 (fun _ q9 ce V hce hcv hcl => ?_)
      obtain ⟨hF1, hF2⟩ := dx_r2 hF
      subst hF1
      subst hF2
      exact cx_out V htab hlocks (cx_qx_s (by decide)) hce hcv hcl (by first | omega | (dsimp only; omega)) (by first | omega | (dsimp only; omega))
    replace hF := (if_neg hk).symm.trans hF
    clear hk
    by_cases hk : cl_k σ0 o0 = 13
    · replace hF := (if_pos hk).symm.trans hF
      refine cx_ccast S V hlt hlocks hl.1 (Nat.le_of_ble_eq_true rfl) ⟨Nat.le_of_ble_eq_true rfl, Nat.le_of_ble_eq_true rfl⟩ ⟨Nat.le_of_ble_eq_true rfl, Nat.le_of_ble_eq_true rfl⟩ e0 hk rfl (by decide) q928 (V.1.2.2.2.2.2.2.1.2.2.1 _ nc_20) q966 ⟨_, q929⟩ (by decide +kernel) (by decide +kernel) (by decide +kernel) (by decide +kernel) dX0_taken_44 (fun _ q9 ce V hce hcv hcl => ?_)
      obtain ⟨hF1, hF2⟩ := dx_r2 hF
      subst hF1
      subst hF2
      exact cx_out V htab hlocks (cx_qx_s (by decide)) hce hcv hcl (by first | omega | (dsimp only; omega)) (by first | omega | (dsimp only; omega))
    replace hF := (if_neg hk).symm.trans hF
    clear hk
    cases hF
  replace hF := (if_neg hs1).symm.trans hF
  by_cases hs2 : p1 = (2 : Int32)
  · replace hF := (if_pos hs2).symm.trans hF
    refine lv_tableIn (tgt := 50) hx hb dX0_taken_1 (by rw [hs2]; decide) (by rw [hs2]; decide) (by rw [hs2]; rfl) (by decide) ?_
    refine lv_aload_n hx hb dX0_taken_50 rfl (lv_at hl 0 rfl) ?_
    by_cases hk : cl_k σ0 o0 = 9
    · replace hF := (if_pos hk).symm.trans hF
      refine cx_ccast S V hlt hlocks hl.1 (Nat.le_of_ble_eq_true rfl) ⟨Nat.le_of_ble_eq_true rfl, Nat.le_of_ble_eq_true rfl⟩ ⟨Nat.le_of_ble_eq_true rfl, Nat.le_of_ble_eq_true rfl⟩ e0 hk rfl (by decide) q941 (V.1.2.2.2.2.2.2.1.2.2.1 _ nc_6) q929 ⟨_, q942⟩ (by decide +kernel) (by decide +kernel) (by decide +kernel) (by decide +kernel) dX0_taken_51 (fun _ q9 ce V hce hcv hcl => ?_)
      obtain ⟨hF1, hF2⟩ := dx_r2 hF
      subst hF1
      subst hF2
      exact cx_out V htab hlocks (cx_qx_s (by decide)) hce hcv hcl (by first | omega | (dsimp only; omega)) (by first | omega | (dsimp only; omega))
    replace hF := (if_neg hk).symm.trans hF
    clear hk
    by_cases hk : cl_k σ0 o0 = 10
    · replace hF := (if_pos hk).symm.trans hF
      refine va_castE hx hb hown (hts _ q941) (cl_recv V e0 hk rfl (by decide)) dX0_taken_51 ?_
      refine lv_goto (tgt := 75) hx hb dX0_taken_54 (by decide) ?_
      refine W.widen (k := 3) (n := 910) (by first | omega | (dsimp only; omega)) (by first | omega | (dsimp only; omega)) ?_
      obtain ⟨hF1, hF2⟩ := dx_r2 hF
      subst hF1
      subst hF2
      exact cx_rr S V hr (Or.inl ⟨_, rfl⟩) hlocks e0 dX0_taken_75
    replace hF := (if_neg hk).symm.trans hF
    clear hk
    by_cases hk : cl_k σ0 o0 = 11
    · replace hF := (if_pos hk).symm.trans hF
      refine cx_ccast S V hlt hlocks hl.1 (Nat.le_of_ble_eq_true rfl) ⟨Nat.le_of_ble_eq_true rfl, Nat.le_of_ble_eq_true rfl⟩ ⟨Nat.le_of_ble_eq_true rfl, Nat.le_of_ble_eq_true rfl⟩ e0 hk rfl (by decide) q941 (V.1.2.2.2.2.2.2.1.2.2.1 _ nc_13) q950 ⟨_, q942⟩ (by decide +kernel) (by decide +kernel) (by decide +kernel) (by decide +kernel) dX0_taken_51 (fun _ q9 ce V hce hcv hcl => ?_)
      obtain ⟨hF1, hF2⟩ := dx_r2 hF
      subst hF1
      subst hF2
      exact cx_out V htab hlocks (cx_qx_s (by decide)) hce hcv hcl (by first | omega | (dsimp only; omega)) (by first | omega | (dsimp only; omega))
    replace hF := (if_neg hk).symm.trans hF
    clear hk
    by_cases hk : cl_k σ0 o0 = 12
    · replace hF := (if_pos hk).symm.trans hF
      refine cx_ccast S V hlt hlocks hl.1 (Nat.le_of_ble_eq_true rfl) ⟨Nat.le_of_ble_eq_true rfl, Nat.le_of_ble_eq_true rfl⟩ ⟨Nat.le_of_ble_eq_true rfl, Nat.le_of_ble_eq_true rfl⟩ e0 hk rfl (by decide) q941 (V.1.2.2.2.2.2.2.1.2.2.1 _ nc_17) q958 ⟨_, q942⟩ (by decide +kernel) (by decide +kernel) (by decide +kernel) (by decide +kernel) dX0_taken_51 (fun _ q9 ce V hce hcv hcl => ?_)
      obtain ⟨hF1, hF2⟩ := dx_r2 hF
      subst hF1
      subst hF2
      exact cx_out V htab hlocks (cx_qx_s (by decide)) hce hcv hcl (by first | omega | (dsimp only; omega)) (by first | omega | (dsimp only; omega))
    replace hF := (if_neg hk).symm.trans hF
    clear hk
    by_cases hk : cl_k σ0 o0 = 13
    · replace hF := (if_pos hk).symm.trans hF
      refine cx_ccast S V hlt hlocks hl.1 (Nat.le_of_ble_eq_true rfl) ⟨Nat.le_of_ble_eq_true rfl, Nat.le_of_ble_eq_true rfl⟩ ⟨Nat.le_of_ble_eq_true rfl, Nat.le_of_ble_eq_true rfl⟩ e0 hk rfl (by decide) q941 (V.1.2.2.2.2.2.2.1.2.2.1 _ nc_21) q966 ⟨_, q942⟩ (by decide +kernel) (by decide +kernel) (by decide +kernel) (by decide +kernel) dX0_taken_51 (fun _ q9 ce V hce hcv hcl => ?_)
      obtain ⟨hF1, hF2⟩ := dx_r2 hF
      subst hF1
      subst hF2
      exact cx_out V htab hlocks (cx_qx_s (by decide)) hce hcv hcl (by first | omega | (dsimp only; omega)) (by first | omega | (dsimp only; omega))
    replace hF := (if_neg hk).symm.trans hF
    clear hk
    cases hF
  replace hF := (if_neg hs2).symm.trans hF
  by_cases hs3 : p1 = (3 : Int32)
  · replace hF := (if_pos hs3).symm.trans hF
    refine lv_tableIn (tgt := 57) hx hb dX0_taken_1 (by rw [hs3]; decide) (by rw [hs3]; decide) (by rw [hs3]; rfl) (by decide) ?_
    refine lv_aload_n hx hb dX0_taken_57 rfl (lv_at hl 0 rfl) ?_
    by_cases hk : cl_k σ0 o0 = 9
    · replace hF := (if_pos hk).symm.trans hF
      refine cx_ccast S V hlt hlocks hl.1 (Nat.le_of_ble_eq_true rfl) ⟨Nat.le_of_ble_eq_true rfl, Nat.le_of_ble_eq_true rfl⟩ ⟨Nat.le_of_ble_eq_true rfl, Nat.le_of_ble_eq_true rfl⟩ e0 hk rfl (by decide) q949 (V.1.2.2.2.2.2.2.1.2.2.1 _ nc_7) q929 ⟨_, q950⟩ (by decide +kernel) (by decide +kernel) (by decide +kernel) (by decide +kernel) dX0_taken_58 (fun _ q9 ce V hce hcv hcl => ?_)
      obtain ⟨hF1, hF2⟩ := dx_r2 hF
      subst hF1
      subst hF2
      exact cx_out V htab hlocks (cx_qx_s (by decide)) hce hcv hcl (by first | omega | (dsimp only; omega)) (by first | omega | (dsimp only; omega))
    replace hF := (if_neg hk).symm.trans hF
    clear hk
    by_cases hk : cl_k σ0 o0 = 10
    · replace hF := (if_pos hk).symm.trans hF
      refine cx_ccast S V hlt hlocks hl.1 (Nat.le_of_ble_eq_true rfl) ⟨Nat.le_of_ble_eq_true rfl, Nat.le_of_ble_eq_true rfl⟩ ⟨Nat.le_of_ble_eq_true rfl, Nat.le_of_ble_eq_true rfl⟩ e0 hk rfl (by decide) q949 (V.1.2.2.2.2.2.2.1.2.2.1 _ nc_10) q942 ⟨_, q950⟩ (by decide +kernel) (by decide +kernel) (by decide +kernel) (by decide +kernel) dX0_taken_58 (fun _ q9 ce V hce hcv hcl => ?_)
      obtain ⟨hF1, hF2⟩ := dx_r2 hF
      subst hF1
      subst hF2
      exact cx_out V htab hlocks (cx_qx_s (by decide)) hce hcv hcl (by first | omega | (dsimp only; omega)) (by first | omega | (dsimp only; omega))
    replace hF := (if_neg hk).symm.trans hF
    clear hk
    by_cases hk : cl_k σ0 o0 = 11
    · replace hF := (if_pos hk).symm.trans hF
      refine va_castE hx hb hown (hts _ q949) (cl_recv V e0 hk rfl (by decide)) dX0_taken_58 ?_
      refine lv_goto (tgt := 75) hx hb dX0_taken_61 (by decide) ?_
      refine W.widen (k := 3) (n := 910) (by first | omega | (dsimp only; omega)) (by first | omega | (dsimp only; omega)) ?_
      obtain ⟨hF1, hF2⟩ := dx_r2 hF
      subst hF1
      subst hF2
      exact cx_rr S V hr (Or.inl ⟨_, rfl⟩) hlocks e0 dX0_taken_75
    replace hF := (if_neg hk).symm.trans hF
    clear hk
    by_cases hk : cl_k σ0 o0 = 12
    · replace hF := (if_pos hk).symm.trans hF
      refine cx_ccast S V hlt hlocks hl.1 (Nat.le_of_ble_eq_true rfl) ⟨Nat.le_of_ble_eq_true rfl, Nat.le_of_ble_eq_true rfl⟩ ⟨Nat.le_of_ble_eq_true rfl, Nat.le_of_ble_eq_true rfl⟩ e0 hk rfl (by decide) q949 (V.1.2.2.2.2.2.2.1.2.2.1 _ nc_18) q958 ⟨_, q950⟩ (by decide +kernel) (by decide +kernel) (by decide +kernel) (by decide +kernel) dX0_taken_58 (fun _ q9 ce V hce hcv hcl => ?_)
      obtain ⟨hF1, hF2⟩ := dx_r2 hF
      subst hF1
      subst hF2
      exact cx_out V htab hlocks (cx_qx_s (by decide)) hce hcv hcl (by first | omega | (dsimp only; omega)) (by first | omega | (dsimp only; omega))
    replace hF := (if_neg hk).symm.trans hF
    clear hk
    by_cases hk : cl_k σ0 o0 = 13
    · replace hF := (if_pos hk).symm.trans hF
      refine cx_ccast S V hlt hlocks hl.1 (Nat.le_of_ble_eq_true rfl) ⟨Nat.le_of_ble_eq_true rfl, Nat.le_of_ble_eq_true rfl⟩ ⟨Nat.le_of_ble_eq_true rfl, Nat.le_of_ble_eq_true rfl⟩ e0 hk rfl (by decide) q949 (V.1.2.2.2.2.2.2.1.2.2.1 _ nc_22) q966 ⟨_, q950⟩ (by decide +kernel) (by decide +kernel) (by decide +kernel) (by decide +kernel) dX0_taken_58 (fun _ q9 ce V hce hcv hcl => ?_)
      obtain ⟨hF1, hF2⟩ := dx_r2 hF
      subst hF1
      subst hF2
      exact cx_out V htab hlocks (cx_qx_s (by decide)) hce hcv hcl (by first | omega | (dsimp only; omega)) (by first | omega | (dsimp only; omega))
    replace hF := (if_neg hk).symm.trans hF
    clear hk
    cases hF
  replace hF := (if_neg hs3).symm.trans hF
  by_cases hs4 : p1 = (4 : Int32)
  · replace hF := (if_pos hs4).symm.trans hF
    refine lv_tableIn (tgt := 64) hx hb dX0_taken_1 (by rw [hs4]; decide) (by rw [hs4]; decide) (by rw [hs4]; rfl) (by decide) ?_
    refine lv_aload_n hx hb dX0_taken_64 rfl (lv_at hl 0 rfl) ?_
    by_cases hk : cl_k σ0 o0 = 9
    · replace hF := (if_pos hk).symm.trans hF
      refine cx_ccast S V hlt hlocks hl.1 (Nat.le_of_ble_eq_true rfl) ⟨Nat.le_of_ble_eq_true rfl, Nat.le_of_ble_eq_true rfl⟩ ⟨Nat.le_of_ble_eq_true rfl, Nat.le_of_ble_eq_true rfl⟩ e0 hk rfl (by decide) q957 (V.1.2.2.2.2.2.2.1.2.2.1 _ nc_8) q929 ⟨_, q958⟩ (by decide +kernel) (by decide +kernel) (by decide +kernel) (by decide +kernel) dX0_taken_65 (fun _ q9 ce V hce hcv hcl => ?_)
      obtain ⟨hF1, hF2⟩ := dx_r2 hF
      subst hF1
      subst hF2
      exact cx_out V htab hlocks (cx_qx_s (by decide)) hce hcv hcl (by first | omega | (dsimp only; omega)) (by first | omega | (dsimp only; omega))
    replace hF := (if_neg hk).symm.trans hF
    clear hk
    by_cases hk : cl_k σ0 o0 = 10
    · replace hF := (if_pos hk).symm.trans hF
      refine cx_ccast S V hlt hlocks hl.1 (Nat.le_of_ble_eq_true rfl) ⟨Nat.le_of_ble_eq_true rfl, Nat.le_of_ble_eq_true rfl⟩ ⟨Nat.le_of_ble_eq_true rfl, Nat.le_of_ble_eq_true rfl⟩ e0 hk rfl (by decide) q957 (V.1.2.2.2.2.2.2.1.2.2.1 _ nc_11) q942 ⟨_, q958⟩ (by decide +kernel) (by decide +kernel) (by decide +kernel) (by decide +kernel) dX0_taken_65 (fun _ q9 ce V hce hcv hcl => ?_)
      obtain ⟨hF1, hF2⟩ := dx_r2 hF
      subst hF1
      subst hF2
      exact cx_out V htab hlocks (cx_qx_s (by decide)) hce hcv hcl (by first | omega | (dsimp only; omega)) (by first | omega | (dsimp only; omega))
    replace hF := (if_neg hk).symm.trans hF
    clear hk
    by_cases hk : cl_k σ0 o0 = 11
    · replace hF := (if_pos hk).symm.trans hF
      refine cx_ccast S V hlt hlocks hl.1 (Nat.le_of_ble_eq_true rfl) ⟨Nat.le_of_ble_eq_true rfl, Nat.le_of_ble_eq_true rfl⟩ ⟨Nat.le_of_ble_eq_true rfl, Nat.le_of_ble_eq_true rfl⟩ e0 hk rfl (by decide) q957 (V.1.2.2.2.2.2.2.1.2.2.1 _ nc_14) q950 ⟨_, q958⟩ (by decide +kernel) (by decide +kernel) (by decide +kernel) (by decide +kernel) dX0_taken_65 (fun _ q9 ce V hce hcv hcl => ?_)
      obtain ⟨hF1, hF2⟩ := dx_r2 hF
      subst hF1
      subst hF2
      exact cx_out V htab hlocks (cx_qx_s (by decide)) hce hcv hcl (by first | omega | (dsimp only; omega)) (by first | omega | (dsimp only; omega))
    replace hF := (if_neg hk).symm.trans hF
    clear hk
    by_cases hk : cl_k σ0 o0 = 12
    · replace hF := (if_pos hk).symm.trans hF
      refine va_castE hx hb hown (hts _ q957) (cl_recv V e0 hk rfl (by decide)) dX0_taken_65 ?_
      refine lv_goto (tgt := 75) hx hb dX0_taken_68 (by decide) ?_
      refine W.widen (k := 3) (n := 910) (by first | omega | (dsimp only; omega)) (by first | omega | (dsimp only; omega)) ?_
      obtain ⟨hF1, hF2⟩ := dx_r2 hF
      subst hF1
      subst hF2
      exact cx_rr S V hr (Or.inl ⟨_, rfl⟩) hlocks e0 dX0_taken_75
    replace hF := (if_neg hk).symm.trans hF
    clear hk
    by_cases hk : cl_k σ0 o0 = 13
    · replace hF := (if_pos hk).symm.trans hF
      refine va_castY hx hb hown (hts _ q957) (V.1.1 _ cn_q2077) (cl_recv V e0 hk rfl (by decide)) dX0_taken_65 ?_
      refine lv_goto (tgt := 75) hx hb dX0_taken_68 (by decide) ?_
      refine W.widen (k := 3) (n := 910) (by first | omega | (dsimp only; omega)) (by first | omega | (dsimp only; omega)) ?_
      obtain ⟨hF1, hF2⟩ := dx_r2 hF
      subst hF1
      subst hF2
      exact cx_rr S V hr (Or.inl ⟨_, rfl⟩) hlocks e0 dX0_taken_75
    replace hF := (if_neg hk).symm.trans hF
    clear hk
    cases hF
  replace hF := (if_neg hs4).symm.trans hF
  refine lv_tableOut (tgt := 71) hx hb dX0_taken_1 (by have nhs0 := lv_neT hs0 (show ((0 : Int32)).toInt = 0 from rfl); have nhs1 := lv_neT hs1 (show ((1 : Int32)).toInt = 1 from rfl); have nhs2 := lv_neT hs2 (show ((2 : Int32)).toInt = 2 from rfl); have nhs3 := lv_neT hs3 (show ((3 : Int32)).toInt = 3 from rfl); have nhs4 := lv_neT hs4 (show ((4 : Int32)).toInt = 4 from rfl); omega) (by decide) ?_
  refine lv_aload_n hx hb dX0_taken_71 rfl (lv_at hl 0 rfl) ?_
  by_cases hk : cl_k σ0 o0 = 9
  · replace hF := (if_pos hk).symm.trans hF
    refine cx_ccast S V hlt hlocks hl.1 (Nat.le_of_ble_eq_true rfl) ⟨Nat.le_of_ble_eq_true rfl, Nat.le_of_ble_eq_true rfl⟩ ⟨Nat.le_of_ble_eq_true rfl, Nat.le_of_ble_eq_true rfl⟩ e0 hk rfl (by decide) q965 (V.1.2.2.2.2.2.2.1.2.2.1 _ nc_9) q929 ⟨_, q966⟩ (by decide +kernel) (by decide +kernel) (by decide +kernel) (by decide +kernel) dX0_taken_72 (fun _ q9 ce V hce hcv hcl => ?_)
    obtain ⟨hF1, hF2⟩ := dx_r2 hF
    subst hF1
    subst hF2
    exact cx_out V htab hlocks (cx_qx_s (by decide)) hce hcv hcl (by first | omega | (dsimp only; omega)) (by first | omega | (dsimp only; omega))
  replace hF := (if_neg hk).symm.trans hF
  clear hk
  by_cases hk : cl_k σ0 o0 = 10
  · replace hF := (if_pos hk).symm.trans hF
    refine cx_ccast S V hlt hlocks hl.1 (Nat.le_of_ble_eq_true rfl) ⟨Nat.le_of_ble_eq_true rfl, Nat.le_of_ble_eq_true rfl⟩ ⟨Nat.le_of_ble_eq_true rfl, Nat.le_of_ble_eq_true rfl⟩ e0 hk rfl (by decide) q965 (V.1.2.2.2.2.2.2.1.2.2.1 _ nc_12) q942 ⟨_, q966⟩ (by decide +kernel) (by decide +kernel) (by decide +kernel) (by decide +kernel) dX0_taken_72 (fun _ q9 ce V hce hcv hcl => ?_)
    obtain ⟨hF1, hF2⟩ := dx_r2 hF
    subst hF1
    subst hF2
    exact cx_out V htab hlocks (cx_qx_s (by decide)) hce hcv hcl (by first | omega | (dsimp only; omega)) (by first | omega | (dsimp only; omega))
  replace hF := (if_neg hk).symm.trans hF
  clear hk
  by_cases hk : cl_k σ0 o0 = 11
  · replace hF := (if_pos hk).symm.trans hF
    refine cx_ccast S V hlt hlocks hl.1 (Nat.le_of_ble_eq_true rfl) ⟨Nat.le_of_ble_eq_true rfl, Nat.le_of_ble_eq_true rfl⟩ ⟨Nat.le_of_ble_eq_true rfl, Nat.le_of_ble_eq_true rfl⟩ e0 hk rfl (by decide) q965 (V.1.2.2.2.2.2.2.1.2.2.1 _ nc_15) q950 ⟨_, q966⟩ (by decide +kernel) (by decide +kernel) (by decide +kernel) (by decide +kernel) dX0_taken_72 (fun _ q9 ce V hce hcv hcl => ?_)
    obtain ⟨hF1, hF2⟩ := dx_r2 hF
    subst hF1
    subst hF2
    exact cx_out V htab hlocks (cx_qx_s (by decide)) hce hcv hcl (by first | omega | (dsimp only; omega)) (by first | omega | (dsimp only; omega))
  replace hF := (if_neg hk).symm.trans hF
  clear hk
  by_cases hk : cl_k σ0 o0 = 12
  · replace hF := (if_pos hk).symm.trans hF
    refine cx_ccast S V hlt hlocks hl.1 (Nat.le_of_ble_eq_true rfl) ⟨Nat.le_of_ble_eq_true rfl, Nat.le_of_ble_eq_true rfl⟩ ⟨Nat.le_of_ble_eq_true rfl, Nat.le_of_ble_eq_true rfl⟩ e0 hk rfl (by decide) q965 (V.1.2.2.2.2.2.2.1.2.2.1 _ nc_19) q958 ⟨_, q966⟩ (by decide +kernel) (by decide +kernel) (by decide +kernel) (by decide +kernel) dX0_taken_72 (fun _ q9 ce V hce hcv hcl => ?_)
    obtain ⟨hF1, hF2⟩ := dx_r2 hF
    subst hF1
    subst hF2
    exact cx_out V htab hlocks (cx_qx_s (by decide)) hce hcv hcl (by first | omega | (dsimp only; omega)) (by first | omega | (dsimp only; omega))
  replace hF := (if_neg hk).symm.trans hF
  clear hk
  by_cases hk : cl_k σ0 o0 = 13
  · replace hF := (if_pos hk).symm.trans hF
    refine va_castE hx hb hown (hts _ q965) (cl_recv V e0 hk rfl (by decide)) dX0_taken_72 ?_
    refine W.widen (k := 3) (n := 910) (by first | omega | (dsimp only; omega)) (by first | omega | (dsimp only; omega)) ?_
    obtain ⟨hF1, hF2⟩ := dx_r2 hF
    subst hF1
    subst hF2
    exact cx_rr S V hr (Or.inl ⟨_, rfl⟩) hlocks e0 dX0_taken_75
  replace hF := (if_neg hk).symm.trans hF
  clear hk
  cases hF
