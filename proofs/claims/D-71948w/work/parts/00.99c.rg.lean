/-! reading: ill days, persons -/
section RG
variable {σ θ : cl_S} {μ ν : mo_S} {S : pa_S} {N : pn_N} {T : rd_T}
theorem rg_Y52 {kd : Int32} {fr : Nat} (h : re_Y μ ν kd fr) (b : Bool) : mo_readsIll_J52 ν b = some ν := by
  unfold mo_readsIll_J52
  rw [re_Ym h, pb_b1, re_Yf h, pb_b2, re_Yb h, pb_b2, rf_Y92 h, rf_Y92 h]
  split <;> rfl
set_option maxHeartbeats 8000000 in
/-- **Reader.ill, readsIll** -/
theorem rg_ill (h : pc_R σ S) (hm : pm_R μ S) (W : re_W σ θ μ ν (pa_tp S) N T) (hT : T.2.2.1 ≠ 0) : rf_O σ μ (pa_tp S) (cl_X7_ill (cl_n σ + 1) θ) (mo_readsIll ν) (fun N' T' => pn_P N' = pn_P N ∧ pn_C N' = pn_C N ∧ T.1 + 5 ≤ T'.1) := by
  have hN : pn_ok N := W.1.2.2.2.2.1
  have hP9 := hN.1
  have k1 := W.2.2.2.2.2.2.2.1 hT
  obtain ⟨⟨a1, a2, a3⟩, -⟩ := rf_A W
  have c0 : (0 : Int32).toNatClampNeg = 0 := by decide
  have nz2 : cl_n σ + 2 ≠ 0 := by omega
  have nz4 : cl_n σ + 4 ≠ 0 := by omega
  have n14 : cl_n σ + 1 ≠ cl_n σ + 4 := by omega
  have c44 : (44 : Int32) = nI 44 := rfl
  have c59 : (59 : Int32) = nI 59 := rfl
  have mt : ∀ (θ : cl_S) (k : Int32), cl_X7_must (cl_n σ + 1) θ true k = some (.inl (), θ) := fun _ _ => rfl
  obtain ⟨T1, g1, ν1, e1, e1m, W1, hT1⟩ := re_next h hm W
  unfold cl_X7_ill mo_readsIll
  rw [pb_gdD _ a1, e1, pb_b1, re_tt W e1m, pb_b2]
  obtain ⟨θ1, hθ1⟩ : ∃ θ1, θ1 = cl_si θ (cl_n σ + 1) g1 := ⟨_, rfl⟩
  rw [← hθ1] at W1 ⊢
  obtain ⟨⟨b1, b2, b3⟩, ⟨q0, -, -⟩, -, ⟨x2, y2, z2⟩, -⟩ := rf_A W1
  obtain ⟨d0, -, -⟩ := rf_D W1
  -- that person must not have been told ill before
  have key : ∀ b : Bool, rf_O σ μ (pa_tp S) (cl_X7_ill_J47 (cl_n σ + 1) θ1 b) (mo_readsIll_J52 ν1 b) (fun N' T' => pn_P N' = pn_P N ∧ pn_C N' = pn_C N ∧ T.1 + 5 ≤ T'.1) := by
    intro b
    unfold cl_X7_ill_J47 mo_readsIll_J52
    rw [pb_gdD _ b1]
    cases b with
    | false =>
      right
      obtain ⟨x, θ', e5, hX⟩ := re_mf W1 2
      obtain ⟨ν', e5m, hY⟩ := re_tf W1 h 2
      refine ⟨2, T1.1, x, θ', ν', ?_, ?_, hX, hY⟩
      · rw [e5, re_bxr]
      · unfold mo_must
        rw [re_well W1.2.2.1, pb_b1, pb_ibT, pb_ibF, e5m, pb_b2, pb_b1, re_Yf hY, pb_b2, re_Yb hY, pb_b2, rf_Y92 hY, rf_Y92 hY]
        split <;> rfl
    | true =>
      have hmust : mo_must ν1 true (2 : Int32) = some ν1 := by
        unfold mo_must
        rw [re_well W1.2.2.1, pb_b1, pb_ibT, pb_ibT]
      rw [mt, re_bxl, pb_gdD _ b1, b2, pb_gdD _ nz2, pb_gdD _ b3, q0, hmust, pb_b1, c0, d0]
      rcases re_fig h hm W1 (0 : Int32) (nI (pn_P N) - 1) with ⟨t2, in2, T2, g2, ν2, e2, e2m, W2, l2⟩ | ⟨kd, y, θ', ν', e2, e2m, hX, hY⟩
      rotate_left
      · right
        refine ⟨kd, T1.1, y, θ', ν', ?_, ?_, hX, hY⟩
        · rw [e2, re_bxr]
        · rw [e2m, pb_b2, re_Yb hY, pb_b2, rf_Y92 hY, rf_Y92 hY]
          split <;> rfl
      obtain ⟨p, hp, hvp⟩ := (pq_lt (by omega)).mp in2
      rw [hvp] at e2 e2m
      rw [e2, re_bxl, e2m, pb_b2]
      obtain ⟨θ2, hθ2⟩ : ∃ θ2, θ2 = cl_si θ1 (cl_n σ + 1) g2 := ⟨_, rfl⟩
      rw [← hθ2] at W2 ⊢
      obtain ⟨⟨b1', -, -⟩, -⟩ := rf_A W2
      rw [pb_gdD _ b1']
      have m2 : ν2.1 6 = (3 : Int32) ↔ T2.2.2.1 = 3 := by rw [W2.2.2.2.1.2.2.1]; exact pb_inj (b := 3) (by have := W2.2.2.2.2.2.2.1; omega) (by omega)
      unfold mo_behind
      rcases re_sign h hm W2 (c := 44) (x := 3) (Or.inl ⟨rfl, rfl⟩) with ⟨t3, T3, g3, ν3, v3, e3, e3m, W3, l3⟩ | ⟨t3, y, θ', ν', e3, e3m, hX, hY⟩
      rotate_left
      · right
        refine ⟨1, T2.1, y, θ', ν', ?_, ?_, hX, hY⟩
        · rw [c44, e3, re_bxr]
        · rw [if_neg (fun h => t3 (m2.mp h))]
          unfold mo_behind_J14
          rw [e3m, pb_b2, re_Yf hY, pb_b2, pb_b2, rf_Y92 hY, rf_Y92 hY]
          split <;> rfl
      rw [c44, e3, re_bxl, if_pos (m2.mpr t3)]
      unfold mo_behind_J14
      rw [e3m, pb_b2]
      obtain ⟨θ3, hθ3⟩ : ∃ θ3, θ3 = cl_si θ2 (cl_n σ + 1) g3 := ⟨_, rfl⟩
      rw [← hθ3] at W3 ⊢
      obtain ⟨⟨b1', -, -⟩, -⟩ := rf_A W3
      rw [pb_gdD _ b1']
      rcases re_fig h hm W3 (0 : Int32) (30 : Int32) with ⟨t4, in4, T4, g4, ν4, e4, e4m, W4, l4⟩ | ⟨kd, y, θ', ν', e4, e4m, hX, hY⟩
      rotate_left
      · right
        refine ⟨kd, T3.1, y, θ', ν', ?_, ?_, hX, hY⟩
        · rw [e4, re_bxr]
        · rw [e4m, pb_b2, pb_b2, rf_Y92 hY, rf_Y92 hY]
          split <;> rfl
      obtain ⟨d, hd30, hvd⟩ := (pq_le (n := 30) (by omega)).mp in4
      rw [hvd] at e4 e4m
      rw [e4, re_bxl, e4m, pb_b2, pb_b2]
      obtain ⟨θ4, hθ4⟩ : ∃ θ4, θ4 = cl_si θ3 (cl_n σ + 1) g4 := ⟨_, rfl⟩
      rw [← hθ4] at W4 ⊢
      obtain ⟨⟨b1', -, -⟩, -⟩ := rf_A W4
      rw [pb_gdD _ b1']
      have m4 : ν4.1 6 = (4 : Int32) ↔ T4.2.2.1 = 4 := by rw [W4.2.2.2.1.2.2.1]; exact pb_inj (b := 4) (by have := W4.2.2.2.2.2.2.1; omega) (by omega)
      rcases re_sign h hm W4 (c := 59) (x := 4) (Or.inr ⟨rfl, rfl⟩) with ⟨t5, T5, g5, ν5, v5, e5, e5m, W5, l5⟩ | ⟨t5, y, θ', ν', e5, e5m, hX, hY⟩
      rotate_left
      · right
        refine ⟨1, T4.1, y, θ', ν', ?_, ?_, hX, hY⟩
        · rw [c59, e5, re_bxr]
        · rw [if_neg (fun h => t5 (m4.mp h))]
          unfold mo_readsIll_J92
          rw [e5m, pb_b2, re_ill hY, pb_b1, pb_ibF]
      left
      rw [c59, e5, re_bxl, if_pos (m4.mpr t5)]
      obtain ⟨θ5, hθ5⟩ : ∃ θ5, θ5 = cl_si θ4 (cl_n σ + 1) g5 := ⟨_, rfl⟩
      rw [← hθ5] at W5 ⊢
      obtain ⟨⟨b1', b2', b3'⟩, -, -, ⟨x2', y2', z2'⟩, -⟩ := rf_A W5
      obtain ⟨G5, g5', M5, J5, K5⟩ := W5
      have ip : dx_inb (nI p) 9 = true := by rw [pb_inb (by omega), decide_eq_true (by omega)]
      refine ⟨_, mo_A ν5 6 (5 + 2 * p) (nI d), rc_nI N p d, T5, ?_, ?_, ⟨rc_G_nI G5 hp hd30, ?_, ?_, J5, K5⟩, rfl, rfl, by omega⟩
      · rw [pb_gdD _ b1', b2', pb_gdD _ nz2, pb_gdD _ b3', x2', pb_gdD _ nz4, pb_gdD _ y2', z2', ip, pb_gdT, pb_let, nI_clamp (by omega)]
      · unfold mo_readsIll_J92
        rw [e5m, pb_b2, re_well M5, pb_b1, pb_ibT, pn_i4, pn_i5, pn_gdi _ (by omega) (by omega), nI_clamp (by omega)]
      · rw [pc_wi, pc_i_si_n _ _ _ _ n14]
        exact g5'
      · obtain ⟨m1, m2', m3', m4'⟩ := M5
        refine ⟨m1, fun k hk => ?_, m3', ?_⟩
        · show va_up ν5.2 6 _ k = _
          rw [va_up_ne _ _ hk]
          exact m2' k hk
        · rw [pe_mA]
          exact rf_mI m4' hN hp d
  have W10 := W1
  obtain ⟨⟨-, -, -, hM1, -, -⟩, ⟨-, -, gk1, -, gv1⟩, ⟨-, -, -, mm1⟩, ⟨-, -, jk1, jv1⟩, ⟨-, -, k51, -, -, k71⟩⟩ := W1
  have hck : cl_i θ1 (cl_n σ + 1) 3 = (2 : Int32) ↔ T1.2.2.1 = 2 := by
    rw [gk1]
    have h6 : T1.2.2.1 = 0 ∨ T1.2.2.1 = 1 ∨ T1.2.2.1 = 2 ∨ T1.2.2.1 = 3 ∨ T1.2.2.1 = 4 ∨ T1.2.2.1 = 5 := by omega
    rcases h6 with e | e | e | e | e | e <;> rw [e] <;> decide
  have hmk : ν1.1 6 = (2 : Int32) ↔ T1.2.2.1 = 2 := by rw [jk1]; exact pb_inj (b := 2) (by omega) (by omega)
  by_cases h2 : T1.2.2.1 = 2
  · have hv2 : rd_v T1.2.2.1 T1.2.2.2 = T1.2.2.2 := by rw [h2]; rfl
    obtain ⟨n, hn, hvn⟩ := k71 h2
    rw [pb_gdD _ b1, if_pos (hck.mpr h2), b2, pb_gdD _ nz2, pb_gdD _ b3, q0, gv1, hv2, hvn, if_pos (hmk.mpr h2), c0, d0, jv1 (by omega), hvn]
    by_cases hle : pn_P N ≤ n
    · rw [if_pos ((pb_le (by omega) (by omega)).mpr hle), if_pos ((pb_le (by omega) (by omega)).mpr hle)]
      exact key true
    · have inn : dx_inb (nI n) 9 = true := by rw [pb_inb (by omega), decide_eq_true (by omega)]
      have hnle : ¬ nI (pn_P N) ≤ nI n := fun h => hle ((pb_le (by omega) (by omega)).mp h)
      have i2 : cl_i θ1 (cl_n σ + 4) n = pn_il N n := (hM1.2.2.1 n (by omega)).2
      have j2 : ν1.2 6 (5 + 2 * n) = pn_il N n := (mm1.2.2.2.2.1 n (by omega)).2
      rw [if_neg hnle, if_neg hnle, pb_gdD _ nz2, x2, pb_gdD _ nz4, pb_gdD _ y2, z2, inn, pb_gdT, nI_clamp (by omega), i2, pn_i4, pn_i5, pn_gdi _ (by omega) (by omega), nI_clamp (by omega), j2]
      by_cases hil : (0 : Int32) ≤ pn_il N n
      · rw [if_pos hil, if_pos hil]
        exact key false
      · rw [if_neg hil, if_neg hil]
        exact key true
  · rw [pb_gdD _ b1, if_neg (fun h => h2 (hck.mp h)), if_neg (fun h => h2 (hmk.mp h))]
    exact key true
set_option maxHeartbeats 8000000 in
/-- **Reader.person, readsPerson** -/
theorem rg_person (h : pc_R σ S) (hm : pm_R μ S) (W : re_W σ θ μ ν (pa_tp S) N T) (hl : rc_lh N) {c : Nat} (hT : T.2.2.1 = 1 ∧ T.2.2.2 = nI c ∧ c < 256 ∧ rs_kd c ≠ 0) : rf_O σ μ (pa_tp S) (cl_X7_person (cl_n σ + 1) θ) (mo_readsPerson ν) (fun N' _ => pn_P N' = pn_P N + 1 ∧ pn_C N' = pn_C N ∧ pn_lo N' = pn_lo N ∧ pn_hi N' = pn_hi N) := by
  have hN : pn_ok N := W.1.2.2.2.2.1
  have hP9 := hN.1
  obtain ⟨t1, t2, t3, t4⟩ := hT
  obtain ⟨⟨a1, a2, a3⟩, ⟨p0, -, -⟩, -⟩ := rf_A W
  obtain ⟨d0, -, -⟩ := rf_D W
  have c0 : (0 : Int32).toNatClampNeg = 0 := by decide
  have nz2 : cl_n σ + 2 ≠ 0 := by omega
  have nz3 : cl_n σ + 3 ≠ 0 := by omega
  have n12 : cl_n σ + 1 ≠ cl_n σ + 2 := by omega
  have c59 : (59 : Int32) = nI 59 := rfl
  have hkd5 := rs_kd_le c
  have mt : ∀ (θ : cl_S) (k : Int32), cl_X7_must (cl_n σ + 1) θ true k = some (.inl (), θ) := fun _ _ => rfl
  have h9 : (9 : Int32) ≤ nI (pn_P N) ↔ 9 ≤ pn_P N := pb_le (a := 9) (by omega) (by omega)
  have j7 : ν.1 7 = nI c := by rw [W.2.2.2.1.2.2.2 (by omega)]; exact t2
  unfold cl_X7_person mo_readsPerson cl_X7_person_J20 mo_readsPerson_J25
  rw [pb_gdD _ a1, a2, pb_gdD _ nz2, pb_gdD _ a3, p0, j7, rs_m t3, pb_b1, c0, d0]
  by_cases hP : 9 ≤ pn_P N
  · right
    rw [if_pos (h9.mpr hP), if_pos (h9.mpr hP)]
    obtain ⟨x, θ', e1, hX⟩ := re_mf W 3
    obtain ⟨ν', e2, hY⟩ := re_tf W h 3
    refine ⟨3, T.1, x, θ', ν', ?_, ?_, hX, hY⟩
    · rw [pb_gdD _ a1, e1, re_bxr]
    · rw [e2, pb_b2, rf_Y44 hY, rf_Y44 hY]
      split <;> rfl
  · have hP' : pn_P N < 9 := by omega
    rw [if_neg (fun h => hP (h9.mp h)), if_neg (fun h => hP (h9.mp h))]
    obtain ⟨-, -, ⟨x1, y1, z1⟩, -⟩ := rf_A W
    have iP : dx_inb (nI (pn_P N)) 9 = true := by rw [pb_inb (by omega), decide_eq_true (by omega)]
    have cP : (nI (pn_P N)).toNatClampNeg = pn_P N := nI_clamp (by omega)
    obtain ⟨r10, θ10, e10, f10, hr10⟩ := rs_sort h W
    have hr : r10 = nI (rs_kd c) := by
      rcases hr10 with ⟨-, c', h1, h2, h3, h4⟩ | ⟨h1, -⟩
      · rw [t2] at h1
        have := (pb_inj (by omega) (by omega)).mp h1
        rw [h4, ← this]
      · exact absurd ⟨t1, c, t2, t3, t4⟩ h1
    subst hr
    have W10 := re_W_fr W f10
    have hK10 : cl_K ≤ cl_n θ10 := by have := f10.1; have := W.1.2.1; have := h.1.1; have : cl_K = 18 := rfl; omega
    obtain ⟨θ11, e11, f11, P11, n11⟩ := px_by θ10 hK10 (k := rs_kd c) (p := pn_P N) ⟨by omega, hkd5⟩
    have W11 := re_W_fr W10 f11
    obtain ⟨-, -, ⟨x1', y1', z1'⟩, -⟩ := rf_A W11
    have nq : cl_n θ10 + 1 ≠ 0 := by omega
    have kq := P11.2.1
    rw [pb_gdD _ a1, mt, re_bxl, pb_gdD _ a1, a2, pb_gdD _ nz2, pb_gdD _ a3, x1, pb_gdD _ nz3, e10, pb_b2, e11, pb_b2, pb_gdD _ nq, pb_gdD _ y1', z1', iP, pb_gdT, pb_gdD _ ⟨by omega, by omega⟩, pb_let, cP]
    obtain ⟨θ15, hθ15⟩ : ∃ θ15, θ15 = cl_wr θ11 (cl_n σ + 3) (pn_P N) (cl_n θ10 + 1) := ⟨_, rfl⟩
    have W15 : re_W σ θ15 μ ν (pa_tp S) N T := by
      obtain ⟨G, g, rest⟩ := W11
      rw [hθ15]
      exact ⟨rc_G_p G hP' ⟨by omega, hkd5⟩ P11, g, rest⟩
    have r15 : cl_r θ15 (cl_n σ + 3) (pn_P N) = cl_n θ10 + 1 := by rw [hθ15, pc_wr, pc_r_sr, if_pos rfl, va_up_self]
    have P15 : pc_P θ15 (cl_n θ10 + 1) (pn_P N) (rs_kd c) := by rw [hθ15]; exact P11
    rw [← hθ15]
    obtain ⟨⟨b1, -, -⟩, -⟩ := rf_A W15
    obtain ⟨T1, g1, ν1, e1, e1m, W1, -⟩ := re_next h hm W15
    rw [pb_gdD _ b1, e1, pb_b1, re_tt W15 e1m, pb_b2]
    obtain ⟨θ1, hθ1⟩ : ∃ θ1, θ1 = cl_si θ15 (cl_n σ + 1) g1 := ⟨_, rfl⟩
    rw [← hθ1] at W1 ⊢
    obtain ⟨⟨b1, -, -⟩, -⟩ := rf_A W1
    rw [pb_gdD _ b1]
    have m1 : ν1.1 6 = (4 : Int32) ↔ T1.2.2.1 = 4 := by rw [W1.2.2.2.1.2.2.1]; exact pb_inj (b := 4) (by have := W1.2.2.2.2.2.2.1; omega) (by omega)
    rcases re_sign h hm W1 (c := 59) (x := 4) (Or.inr ⟨rfl, rfl⟩) with ⟨t5, T5, g5, ν5, v5, e5, e5m, W5, -⟩ | ⟨t5, y, θ', ν', e5, e5m, hX, hY⟩
    rotate_left
    · right
      refine ⟨1, T1.1, y, θ', ν', ?_, ?_, hX, hY⟩
      · rw [c59, e5, re_bxr]
      · rw [if_neg (fun h => t5 (m1.mp h))]
        unfold mo_readsPerson_J44
        rw [e5m, pb_b2, re_ill hY, pb_b1, pb_ibF]
    left
    rw [c59, e5, re_bxl, if_pos (m1.mpr t5)]
    obtain ⟨θ5, hθ5⟩ : ∃ θ5, θ5 = cl_si θ1 (cl_n σ + 1) g5 := ⟨_, rfl⟩
    rw [← hθ5] at W5 ⊢
    have n10 := f10.1
    have n0 := W.1.2.1
    have P5 : pc_P θ5 (cl_r θ5 (cl_n σ + 3) (pn_P N)) (pn_P N) (rs_kd c) := by
      have er : cl_r θ5 (cl_n σ + 3) (pn_P N) = cl_n θ10 + 1 := by rw [hθ5, hθ1]; exact r15
      rw [er]
      obtain ⟨q1, q2, q3⟩ := P15
      refine ⟨by rw [hθ5, hθ1]; exact q1, by rw [hθ5, hθ1]; exact q2, ?_⟩
      rw [hθ5, pc_i_si_n _ _ _ _ (by omega), hθ1, pc_i_si_n _ _ _ _ (by omega)]
      exact q3
    obtain ⟨⟨b1', b2', b3'⟩, ⟨q0, -, -⟩, -⟩ := rf_A W5
    obtain ⟨d0', -, -⟩ := rf_D W5
    obtain ⟨G5, g5', M5, J5, K5⟩ := W5
    refine ⟨_, mo_A (mo_A (mo_A ν5 6 (4 + 2 * pn_P N) (nI (rs_kd c))) 6 (5 + 2 * pn_P N) (-1)) 6 0 (nI (pn_P N + 1)), rc_nP N (rs_kd c), T5, ?_, ?_, ⟨rc_G_nP G5 hl hP' ⟨by omega, hkd5⟩ P5, ?_, ?_, J5, K5⟩, rfl, rfl, rfl, rfl⟩
    · rw [pb_gdD _ b1', b2', pb_gdD _ nz2, pb_gdD _ b3', q0, ← nI_succ, pb_let]
    · unfold mo_readsPerson_J44
      have eP0 : (mo_A (mo_A ν5 6 (4 + 2 * pn_P N) (nI (rs_kd c))) 6 (5 + 2 * pn_P N) (-1)).2 6 0 = nI (pn_P N) := by
        rw [pe_mA]
        unfold upd
        rw [if_neg (by omega), pe_mA]
        unfold upd
        rw [if_neg (by omega)]
        exact d0'
      rw [e5m, pb_b2, re_well M5, pb_b1, pb_ibT, c0, d0', pn_i4, pn_i5, pn_gdi _ (by omega) (by omega), pn_gdi _ (by omega) (by omega), nI_clamp (by omega), nI_clamp (by omega), eP0, ← nI_succ]
    · rw [pc_wi, pc_i_si_n _ _ _ _ n12]
      exact g5'
    · obtain ⟨m1', m2', m3', m4'⟩ := M5
      refine ⟨m1', fun k hk => ?_, m3', ?_⟩
      · show va_up (va_up (va_up ν5.2 6 _) 6 _) 6 _ k = _
        rw [va_up_ne _ _ hk, va_up_ne _ _ hk, va_up_ne _ _ hk]
        exact m2' k hk
      · rw [pe_mA, pe_mA, pe_mA]
        exact rf_mP m4' hP' (rs_kd c)
end RG
