/-! reading: the whole of it -/
section RI
variable {σ θ : cl_S} {μ ν : mo_S} {S : pa_S} {N : pn_N} {T : rd_T}
theorem ri_Y108 {kd : Int32} {fr : Nat} (h : re_Y μ ν kd fr) (b : Bool) : mo_net_J108 ν b = some ((-1000100 : Int32) - nI fr, mo_I ν 1 (0 : Int32)) := by
  unfold mo_net_J108
  rw [re_Yt h, pb_b2, rh_fu, rh_Y113 h]
/-- the Model's end behind a fault, once low is told; .. once high is told -/
theorem ri_Yh {kd : Int32} {fr : Nat} (h : re_Y μ ν kd fr) (r : Int32) : (if (mo_A ν 6 ((3 : Int32).toNatClampNeg) r).1 6 = (4 : Int32) then (mo_net_J108 (mo_A ν 6 ((3 : Int32).toNatClampNeg) r) true) else (mo_net_J108 (mo_A ν 6 ((3 : Int32).toNatClampNeg) r) false)) = some ((-1000100 : Int32) - nI fr, mo_I (mo_A ν 6 ((3 : Int32).toNatClampNeg) r) 1 (0 : Int32)) := by
  have hY := rh_YA h ((3 : Int32).toNatClampNeg) r
  rw [ri_Y108 hY, ri_Y108 hY]
  split <;> rfl
theorem ri_Yl {kd : Int32} {fr : Nat} (h : re_Y μ ν kd fr) (r : Int32) : ∃ ν', re_Y μ ν' kd fr ∧ (dx_b2 (mo_behind (mo_A ν 6 ((2 : Int32).toNatClampNeg) r) ((mo_A ν 6 ((2 : Int32).toNatClampNeg) r).2 6 (2 : Int32).toNatClampNeg) (20 : Int32)) fun r4 σ4 => (if ((mo_A σ4 6 ((3 : Int32).toNatClampNeg) r4).1 6) = (4 : Int32) then (mo_net_J108 (mo_A σ4 6 ((3 : Int32).toNatClampNeg) r4) true) else (mo_net_J108 (mo_A σ4 6 ((3 : Int32).toNatClampNeg) r4) false))) = some ((-1000100 : Int32) - nI fr, mo_I ν' 1 (0 : Int32)) := by
  have hY := rh_YA h ((2 : Int32).toNatClampNeg) r
  refine ⟨_, rh_YA hY ((3 : Int32).toNatClampNeg) 0, ?_⟩
  rw [re_Yb hY, pb_b2, ri_Yh hY]
/-- a write of the net's low, high -/
theorem ri_wl (W : re_W σ θ μ ν (pa_tp S) N T) (hP : pn_P N = 0) (l : Nat) : re_W σ (cl_wi θ (cl_n σ + 2) 2 (nI l)) μ (mo_A ν 6 2 (nI l)) (pa_tp S) (rc_nL N l) T ∧ re_W σ (cl_wi θ (cl_n σ + 2) 3 (nI l)) μ (mo_A ν 6 3 (nI l)) (pa_tp S) (rc_nH N l) T := by
  obtain ⟨hG, hg, ⟨m1, m2, m3, m4⟩, hJ, hK⟩ := W
  have g1 : ∀ k, cl_i (cl_wi θ (cl_n σ + 2) k (nI l)) (cl_n σ + 1) = cl_i θ (cl_n σ + 1) := fun k => by rw [pc_wi, pc_i_si_n _ _ _ _ (by omega)]
  have ar : ∀ i k, k ≠ 6 → (mo_A ν 6 i (nI l)).2 k = μ.2 k := by
    intro i k hk
    show va_up ν.2 6 _ k = _
    rw [va_up_ne _ _ hk]
    exact m2 k hk
  have mL := rf_mL m4 l
  refine ⟨⟨(rc_G_nL hG hP l).1, by rw [g1]; exact hg, ⟨m1, ar 2, m3, by rw [pe_mA]; exact mL.1⟩, hJ, hK⟩, ⟨(rc_G_nL hG hP l).2, by rw [g1]; exact hg, ⟨m1, ar 3, m3, by rw [pe_mA]; exact mL.2⟩, hJ, hK⟩⟩
theorem ri_num {lo hi : Nat} (hl : lo < 100) (hh : hi < 100) (hT : T.2.2.1 = 2) (hK : rd_K (pa_tp S) T) (hin : pq_in T.2.2.2 (nI lo) (nI hi) = true) : ∃ n, T.2.2.2 = nI n ∧ lo ≤ n ∧ n ≤ hi := by
  obtain ⟨n, hn, hv⟩ := hK.2.2.2.2.2 hT
  rw [hv, rd_in (by omega) (by omega) (by omega), decide_eq_true_iff] at hin
  exact ⟨n, hv, hin.1, hin.2⟩
set_option maxHeartbeats 8000000 in
/-- behind the first token -/
theorem ri_all (h : pc_R σ S) (hm : pm_R μ S) (W : re_W σ θ μ ν (pa_tp S) N T) (hP : pn_P N = 0) (hC : pn_C N = 0) : rh_F σ μ (dx_gd (decide (cl_k θ (cl_n σ + 1) = 7)) (dx_b1 (cl_X7_is (cl_n σ + 1) θ (1 : Int32) (119 : Int32)) fun r3 => (dx_bx (cl_X7_must (cl_n σ + 1) θ r3 (1 : Int32)) (fun _ σ5 => (dx_gd (decide (cl_k σ5 (cl_n σ + 1) = 7)) (dx_b1 (cl_X7_next (cl_n σ + 1) σ5) fun σ6 => (dx_gd (decide (cl_k σ6 (cl_n σ + 1) = 7)) (dx_gd (decide (¬ (cl_r σ6 (cl_n σ + 1) 6) = 0)) (dx_bx (cl_X7_figure (cl_n σ + 1) σ6 (1 : Int32) (9 : Int32)) (fun r10 σ10 => (dx_gd (decide (cl_k σ10 (cl_r σ6 (cl_n σ + 1) 6) = 2)) (dx_gd (decide (cl_k (cl_wi σ10 (cl_r σ6 (cl_n σ + 1) 6) 2 r10) (cl_n σ + 1) = 7)) (dx_bx (cl_X7_sign (cl_n σ + 1) (cl_wi σ10 (cl_r σ6 (cl_n σ + 1) 6) 2 r10) (44 : Int32)) (fun _ σ12 => (dx_gd (decide (cl_k σ12 (cl_n σ + 1) = 7)) (dx_gd (decide (¬ (cl_r σ12 (cl_n σ + 1) 6) = 0)) (dx_gd (decide (¬ (cl_r σ12 (cl_n σ + 1) 6) = 0)) (dx_gd (decide (cl_k σ12 (cl_r σ12 (cl_n σ + 1) 6) = 2)) (dx_bx (cl_X7_figure (cl_n σ + 1) σ12 (cl_i σ12 (cl_r σ12 (cl_n σ + 1) 6) 2) (20 : Int32)) (fun r18 σ18 => (dx_gd (decide (cl_k σ18 (cl_r σ12 (cl_n σ + 1) 6) = 2)) (dx_gd (decide (cl_k (cl_wi σ18 (cl_r σ12 (cl_n σ + 1) 6) 3 r18) (cl_n σ + 1) = 7)) (dx_bx (cl_X7_sign (cl_n σ + 1) (cl_wi σ18 (cl_r σ12 (cl_n σ + 1) 6) 3 r18) (59 : Int32)) (fun _ σ20 => (dx_gd (decide (cl_k σ20 (cl_n σ + 1) = 7)) (dx_b2 (cl_X7_sort (cl_n σ + 1) σ20) fun r22 σ22 => (if r22 = (-1000000 : Int32) then (cl_X7_all_J81 (cl_n σ + 1) σ22 false) else (cl_X7_all_J81 (cl_n σ + 1) σ22 true))))) (fun x20 σ20 => (some (.inr x20, σ20))))))) (fun x18 σ18 => (some (.inr x18, σ18))))))))) (fun x12 σ12 => (some (.inr x12, σ12))))))) (fun x10 σ10 => (some (.inr x10, σ10))))))))) (fun x5 σ5 => (some (.inr x5, σ5)))))) (if (ν.1 6) = (1 : Int32) then (if (ν.1 7) = (119 : Int32) then (mo_net_J58 ν true) else (mo_net_J58 ν false)) else (mo_net_J58 ν false)) := by
  have c2 : (2 : Int32).toNatClampNeg = 2 := by decide
  have c3 : (3 : Int32).toNatClampNeg = 3 := by decide
  have c44 : (44 : Int32) = nI 44 := rfl
  have c59 : (59 : Int32) = nI 59 := rfl
  have nz2 : cl_n σ + 2 ≠ 0 := by omega
  have mt : ∀ (θ : cl_S) (k : Int32), cl_X7_must (cl_n σ + 1) θ true k = some (.inl (), θ) := fun _ _ => rfl
  obtain ⟨⟨a1, a2, a3⟩, -⟩ := rf_A W
  obtain ⟨i1, -⟩ := rh_is W (119 : Int32)
  have jk := W.2.2.2.1.2.2.1
  have jv := W.2.2.2.1.2.2.2
  have k5 := W.2.2.2.2.2.2.1
  have hmk : ν.1 6 = (1 : Int32) ↔ T.2.2.1 = 1 := by rw [jk]; exact pb_inj (b := 1) (by omega) (by omega)
  have hif : ∀ b : Bool, (b = true ↔ (T.2.2.1 = 1 ∧ T.2.2.2 = (119 : Int32))) → (if (ν.1 6) = (1 : Int32) then (if (ν.1 7) = (119 : Int32) then (mo_net_J58 ν true) else (mo_net_J58 ν false)) else (mo_net_J58 ν false)) = mo_net_J58 ν b := by
    intro b hb
    by_cases h1 : T.2.2.1 = 1
    · rw [if_pos (hmk.mpr h1), jv (by omega)]
      by_cases h2 : T.2.2.2 = (119 : Int32)
      · rw [if_pos h2, hb.mpr ⟨h1, h2⟩]
      · rw [if_neg h2]
        cases b with
        | false => rfl
        | true => exact absurd (hb.mp rfl).2 h2
    · rw [if_neg (fun h => h1 (hmk.mp h))]
      cases b with
      | false => rfl
      | true => exact absurd (hb.mp rfl).1 h1
  rw [pb_gdD _ a1, i1, pb_b1]
  by_cases hB : T.2.2.1 = 1 ∧ T.2.2.2 = (119 : Int32)
  rotate_left
  · right
    rw [decide_eq_false hB, hif false ⟨fun h => Bool.noConfusion h, fun h => absurd h hB⟩]
    obtain ⟨x, θ', e1, hX⟩ := re_mf W 1
    obtain ⟨ν', e2, hY⟩ := re_tf W h 1
    obtain ⟨ν'', hY', e3⟩ := ri_Yl hY 0
    refine ⟨1, T.1, x, θ', ν'', ?_, hX, hY', ?_⟩
    · rw [e1, re_bxr]
    · unfold mo_net_J58
      rw [e2, pb_b2, re_Yf hY, pb_b2]
      exact e3
  rw [decide_eq_true hB, hif true ⟨fun _ => hB, fun _ => rfl⟩]
  obtain ⟨T1, g1, ν1, e1, e1m, W1, -⟩ := re_next h hm W
  unfold mo_net_J58
  rw [mt, re_bxl, pb_gdD _ a1, e1, pb_b1, re_tt W e1m, pb_b2]
  obtain ⟨θ1, hθ1⟩ : ∃ θ1, θ1 = cl_si θ (cl_n σ + 1) g1 := ⟨_, rfl⟩
  rw [← hθ1] at W1 ⊢
  obtain ⟨⟨b1, b2, b3⟩, -⟩ := rf_A W1
  rw [pb_gdD _ b1, b2, pb_gdD _ nz2]
  rcases re_fig h hm W1 (1 : Int32) (9 : Int32) with ⟨t2, in2, T2, g2, ν2, e2, e2m, W2, -⟩ | ⟨kd, y, θ', ν', e2, e2m, hX, hY⟩
  rotate_left
  · right
    obtain ⟨ν'', hY', e3⟩ := ri_Yl hY 0
    refine ⟨kd, T1.1, y, θ', ν'', ?_, hX, hY', ?_⟩
    · rw [e2, re_bxr]
    · rw [e2m, pb_b2]
      exact e3
  obtain ⟨l, hvl, hl1, hl9⟩ := ri_num (S := S) (lo := 1) (hi := 9) (by omega) (by omega) t2 W1.2.2.2.2 in2
  rw [hvl] at e2 e2m
  rw [e2, re_bxl, e2m, pb_b2]
  obtain ⟨θ2, hθ2⟩ : ∃ θ2, θ2 = cl_si θ1 (cl_n σ + 1) g2 := ⟨_, rfl⟩
  rw [← hθ2] at W2 ⊢
  obtain ⟨⟨b1, b2', b3⟩, -⟩ := rf_A W2
  have W3 := (ri_wl W2 hP l).1
  rw [pb_gdD _ b3, c2]
  obtain ⟨θ3, hθ3⟩ : ∃ θ3, θ3 = cl_wi θ2 (cl_n σ + 2) 2 (nI l) := ⟨_, rfl⟩
  obtain ⟨ν3, hν3⟩ : ∃ ν3, ν3 = mo_A ν2 6 2 (nI l) := ⟨_, rfl⟩
  rw [← hθ3, ← hν3] at W3 ⊢
  obtain ⟨⟨b1, b2', b3⟩, -⟩ := rf_A W3
  have d3 : ν3.2 6 2 = nI l := (rf_D W3).2.2
  rw [pb_gdD _ b1, d3]
  have m3 : ν3.1 6 = (3 : Int32) ↔ T2.2.2.1 = 3 := by rw [W3.2.2.2.1.2.2.1]; exact pb_inj (b := 3) (by have := W3.2.2.2.2.2.2.1; omega) (by omega)
  unfold mo_behind
  rcases re_sign h hm W3 (c := 44) (x := 3) (Or.inl ⟨rfl, rfl⟩) with ⟨t4, T4, g4, ν4, v4, e4, e4m, W4, -⟩ | ⟨t4, y, θ', ν', e4, e4m, hX, hY⟩
  rotate_left
  · right
    refine ⟨1, T2.1, y, θ', mo_A ν' 6 ((3 : Int32).toNatClampNeg) 0, ?_, hX, rh_YA hY _ _, ?_⟩
    · rw [c44, e4, re_bxr]
    · rw [if_neg (fun h => t4 (m3.mp h))]
      unfold mo_behind_J14
      rw [e4m, pb_b2, re_Yf hY, pb_b2, pb_b2]
      exact ri_Yh hY 0
  rw [c44, e4, re_bxl, if_pos (m3.mpr t4)]
  unfold mo_behind_J14
  rw [e4m, pb_b2]
  obtain ⟨θ4, hθ4⟩ : ∃ θ4, θ4 = cl_si θ3 (cl_n σ + 1) g4 := ⟨_, rfl⟩
  rw [← hθ4] at W4 ⊢
  obtain ⟨⟨b1, b2', b3⟩, ⟨-, -, q2⟩, -⟩ := rf_A W4
  have q2' : cl_i θ4 (cl_n σ + 2) 2 = nI l := q2
  rw [pb_gdD _ b1, b2', pb_gdD _ nz2, pb_gdD _ nz2, pb_gdD _ b3, q2']
  rcases re_fig h hm W4 (nI l) (20 : Int32) with ⟨t5, in5, T5, g5, ν5, e5, e5m, W5, -⟩ | ⟨kd, y, θ', ν', e5, e5m, hX, hY⟩
  rotate_left
  · right
    refine ⟨kd, T4.1, y, θ', mo_A ν' 6 ((3 : Int32).toNatClampNeg) 0, ?_, hX, rh_YA hY _ _, ?_⟩
    · rw [e5, re_bxr]
    · rw [e5m, pb_b2, pb_b2]
      exact ri_Yh hY 0
  obtain ⟨hh, hvh, hh1, hh2⟩ := ri_num (S := S) (lo := l) (hi := 20) (by omega) (by omega) t5 W4.2.2.2.2 in5
  rw [hvh] at e5 e5m
  rw [e5, re_bxl, e5m, pb_b2, pb_b2]
  obtain ⟨θ5, hθ5⟩ : ∃ θ5, θ5 = cl_si θ4 (cl_n σ + 1) g5 := ⟨_, rfl⟩
  rw [← hθ5] at W5 ⊢
  obtain ⟨⟨b1, b2', b3⟩, -⟩ := rf_A W5
  have W6 := (ri_wl W5 hP hh).2
  rw [pb_gdD _ b3, c3]
  obtain ⟨θ6, hθ6⟩ : ∃ θ6, θ6 = cl_wi θ5 (cl_n σ + 2) 3 (nI hh) := ⟨_, rfl⟩
  obtain ⟨ν6, hν6⟩ : ∃ ν6, ν6 = mo_A ν5 6 3 (nI hh) := ⟨_, rfl⟩
  rw [← hθ6, ← hν6] at W6 ⊢
  obtain ⟨⟨b1, -, -⟩, -⟩ := rf_A W6
  rw [pb_gdD _ b1]
  have m6 : ν6.1 6 = (4 : Int32) ↔ T5.2.2.1 = 4 := by rw [W6.2.2.2.1.2.2.1]; exact pb_inj (b := 4) (by have := W6.2.2.2.2.2.2.1; omega) (by omega)
  rcases re_sign h hm W6 (c := 59) (x := 4) (Or.inr ⟨rfl, rfl⟩) with ⟨t7, T7, g7, ν7, v7, e7, e7m, W7, -⟩ | ⟨t7, y, θ', ν', e7, e7m, hX, hY⟩
  rotate_left
  · right
    refine ⟨1, T5.1, y, θ', ν', ?_, hX, hY, ?_⟩
    · rw [c59, e7, re_bxr]
    · rw [if_neg (fun h => t7 (m6.mp h))]
      unfold mo_net_J108
      rw [e7m, pb_b2, rh_fu, rh_Y113 hY]
  rw [c59, e7, re_bxl, if_pos (m6.mpr t7)]
  unfold mo_net_J108
  rw [e7m, pb_b2]
  obtain ⟨θ7, hθ7⟩ : ∃ θ7, θ7 = cl_si θ6 (cl_n σ + 1) g7 := ⟨_, rfl⟩
  rw [← hθ7] at W7 ⊢
  obtain ⟨⟨b1, -, -⟩, -⟩ := rf_A W7
  obtain ⟨r, θ8, e8, f8, hr⟩ := rs_sort h W7
  have W8 := re_W_fr W7 f8
  obtain ⟨⟨b1', -, -⟩, -⟩ := rf_A W8
  rw [pb_gdD _ b1, e8, pb_b2]
  have hlh : rc_lh (rc_nH (rc_nL N l) hh) := ⟨hl1, hl9, hh1, hh2⟩
  unfold cl_X7_all_J81
  rcases hr with ⟨t8, c, t9, tA, tB, tC⟩ | ⟨t8, tC⟩
  · have hkd5 := rs_kd_le c
    have hne : ¬ r = (-1000000 : Int32) := by rw [tC]; exact pr_nN (by omega)
    rw [if_neg hne, pb_gdD _ b1', mt, re_bxl]
    have := rh_85 h hm 11 999988 θ8 ν7 _ T7 W8 hlh hC (Or.inr ⟨t8, c, t9, tA, tB⟩) (by omega)
    exact this
  · rw [if_pos tC, pb_gdD _ b1']
    right
    obtain ⟨x, θ', e9, hX⟩ := re_mf W8 1
    obtain ⟨ν', e9m, hY⟩ := re_tf W8 h 1
    refine ⟨1, T7.1, x, θ', ν', ?_, hX, hY, ?_⟩
    · rw [e9, re_bxr]
    · have hM := W8.2.2.1
      have d0 : ν7.2 6 0 = nI 0 := by
        have := (rf_D W8).1
        rw [this]
        show nI (pn_P N) = nI 0
        rw [hP]
      have c0 : (0 : Int32).toNatClampNeg = 0 := by decide
      have hmust : mo_must ν7 false (1 : Int32) = some ν' := by
        unfold mo_must
        rw [re_well hM, pb_b1, pb_ibT, pb_ibF, e9m, pb_b2]
      have J145 : mo_net_J145 ν7 = some ((-1000100 : Int32) - nI T7.1, mo_I ν' 1 (0 : Int32)) := by
        unfold mo_net_J145 mo_net_J160
        rw [c0, d0, if_pos (by decide), hmust, pb_b1, rh_fu, rh_Y164 hY]
      have jk7 := W8.2.2.2.1.2.2.1
      have jv7 := W8.2.2.2.1.2.2.2
      have k57 := W8.2.2.2.2.2.2.1
      have k67 := W8.2.2.2.2.2.2.2.2.1
      have hmk7 : ν7.1 6 = (1 : Int32) ↔ T7.2.2.1 = 1 := by rw [jk7]; exact pb_inj (b := 1) (by omega) (by omega)
      rw [rh_fu]
      refine rh_out ?_ _
      unfold mo_net_L113
      rw [re_well hM, pb_b1, pb_ibT, J145]
      by_cases h1 : T7.2.2.1 = 1
      · obtain ⟨c, hc1, hc2, hv⟩ := k67 h1
        have hz : rs_kd c = 0 := by
          refine Classical.byContradiction fun hne => t8 ⟨h1, c, hv, by omega, hne⟩
        have j7 : ν7.1 7 = nI c := by rw [jv7 (by omega)]; exact hv
        rw [if_pos (hmk7.mpr h1), j7, rs_m (by omega), pb_b1, hz, if_pos (by decide)]
        rfl
      · rw [if_neg (fun h => h1 (hmk7.mp h))]
        rfl
end RI
