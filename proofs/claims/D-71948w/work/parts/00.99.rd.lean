/-! reading: must, sign, figure -/
def re_M (μ ν : mo_S) (N : pn_N) : Prop := (∀ k, (k < 3 ∨ 7 < k) → ν.1 k = μ.1 k) ∧ (∀ k, k ≠ 6 → ν.2 k = μ.2 k) ∧ ν.1 3 = -1 ∧ pn_m (ν.2 6) N
/-- all is well on both sides -/
def re_W (σ θ : cl_S) (μ ν : mo_S) (tp : Nat) (N : pn_N) (T : rd_T) : Prop := rc_G σ θ N ∧ rd_g (cl_i θ (cl_n σ + 1)) tp T ∧ re_M μ ν N ∧ rd_J ν T ∧ rd_K tp T
/-- a fault: thrown; noted -/
def re_X (σ θ : cl_S) (x : Nat) (kd : Int32) (fr : Nat) : Prop := 10 ≤ x ∧ pc_fr σ θ pc_0 pc_0 ∧ cl_n σ < x - 10 ∧ cl_k θ (x - 10) = 8 ∧ cl_i θ (x - 10) 6 = kd ∧ cl_i θ (x - 10) 7 = nI fr
def re_Y (μ ν : mo_S) (kd : Int32) (fr : Nat) : Prop := (∀ k, (k < 2 ∨ 7 < k) → ν.1 k = μ.1 k) ∧ (∀ k, k ≠ 6 → ν.2 k = μ.2 k) ∧ ν.1 2 = kd ∧ ν.1 3 = nI fr ∧ fr ≤ 130
section RE
variable {σ θ : cl_S} {μ ν : mo_S} {S : pa_S} {N : pn_N} {T : rd_T}
theorem re_H (h : pc_R σ S) (hG : rc_G σ θ N) : rd_H θ (cl_n σ + 1) (pa_tp S) (pa_tape S) ∧ pc_R θ S := by
  have hR : pc_R θ S := pc_R_sc hG.1 (fun _ _ h => h.elim) (fun _ _ h => h.elim) h
  have h54 := h.1.1
  have hR0 := hR
  obtain ⟨f0, d, hN, hp, im, rw_, ⟨t1, t2, t3⟩, -⟩ := hR
  obtain ⟨⟨a1, a2⟩, -⟩ := f0.2.2.2.2.1
  exact ⟨⟨⟨hG.2.2.1.1, hG.2.2.1.2.1, by omega⟩, ⟨a1, a2⟩, t1, t3⟩, hR0⟩
/-- **the next token**, all being well -/
theorem re_next (h : pc_R σ S) (hm : pm_R μ S) (W : re_W σ θ μ ν (pa_tp S) N T) : ∃ T' g ν', cl_X7_next (cl_n σ + 1) θ = some (cl_si θ (cl_n σ + 1) g) ∧ mo_advances ν = some ν' ∧ re_W σ (cl_si θ (cl_n σ + 1) g) μ ν' (pa_tp S) N T' ∧ T'.1 = T.2.1 := by
  obtain ⟨hG, ⟨g1, g2, -⟩, ⟨m1, m2, m3, m4⟩, ⟨j1, -⟩, ⟨-, k2, -⟩⟩ := W
  obtain ⟨hH, -⟩ := re_H h hG
  obtain ⟨-, -, -, -, ⟨p1, p2⟩, -⟩ := hm
  obtain ⟨T', g', ν', c1, c2, c3, c4, c5, c6, c7, c8⟩ := rd_next hH k2 g1 g2 (by rw [m1 1 (by omega)]; exact p1) (fun j hj => by rw [m2 4 (by omega)]; exact p2 j hj) j1
  rw [pc_si_self] at c1
  refine ⟨T', g', ν', c1, c3, ⟨rc_G_r hG g', by rw [pc_i_si_s]; exact c2, ⟨fun k hk => (c5 k (by omega)).trans (m1 k hk), fun k hk => by rw [c4]; exact m2 k hk, (c5 3 (by omega)).trans m3, by rw [c4]; exact m4⟩, c6, c7⟩, c8⟩
theorem re_well (h : re_M μ ν N) : mo_isWell ν = some true := by
  unfold mo_isWell
  rw [h.2.2.1, if_neg (by decide)]
theorem re_ill {kd : Int32} {fr : Nat} (h : re_Y μ ν kd fr) : mo_isWell ν = some false := by
  unfold mo_isWell
  rw [h.2.2.2.1, if_pos (Int32.not_lt.mp (pb_neg (by have := h.2.2.2.2; omega)))]
theorem re_Yt {kd : Int32} {fr : Nat} (h : re_Y μ ν kd fr) (b : Bool) (k : Int32) : mo_takes ν b k = some ((0 : Int32), ν) := by
  unfold mo_takes
  rw [re_ill h, pb_b1, pb_ibF]
theorem re_Yf {kd : Int32} {fr : Nat} (h : re_Y μ ν kd fr) (lo hi : Int32) : mo_figure ν lo hi = some ((0 : Int32), ν) := by
  unfold mo_figure mo_figure_J22
  rw [re_ill h, pb_b1, pb_ibF, pq_m, pb_b1, re_Yt h, pb_b2]
theorem re_Ym {kd : Int32} {fr : Nat} (h : re_Y μ ν kd fr) (b : Bool) (k : Int32) : mo_must ν b k = some ν := by
  unfold mo_must
  rw [re_ill h, pb_b1, pb_ibF]
theorem re_Yb {kd : Int32} {fr : Nat} (h : re_Y μ ν kd fr) (lo hi : Int32) : mo_behind ν lo hi = some ((0 : Int32), ν) := by
  unfold mo_behind mo_behind_J14
  rw [re_Yt h, re_Yt h, pb_b2, re_Yf h, pb_b2]
  split <;> rfl
/-- a fault is noted -/
theorem re_tf (W : re_W σ θ μ ν (pa_tp S) N T) (h : pc_R σ S) (k : Int32) : ∃ ν', mo_takes ν false k = some ((0 : Int32), ν') ∧ re_Y μ ν' k T.1 := by
  obtain ⟨hG, -, ⟨m1, m2, m3, m4⟩, ⟨j1, j2, -⟩, ⟨k1, k2, -⟩⟩ := W
  obtain ⟨-, -, -, -, -, -, ⟨t1, -⟩, -⟩ := h
  refine ⟨mo_I (mo_I ν 3 (nI T.1)) 2 k, ?_, fun i hi => ?_, m2, rfl, rfl, by omega⟩
  · unfold mo_takes
    rw [re_well ⟨m1, m2, m3, m4⟩, pb_b1, pb_ibT, pb_ibF, j2]
  · show upd (upd ν.1 3 _) 2 k i = _
    unfold upd
    rw [if_neg (by omega), if_neg (by omega)]
    exact m1 i (by omega)
theorem re_tt (W : re_W σ θ μ ν (pa_tp S) N T) {ν' : mo_S} (ha : mo_advances ν = some ν') (k : Int32) : mo_takes ν true k = some (ν.1 7, ν') := by
  unfold mo_takes
  rw [re_well W.2.2.1, pb_b1, pb_ibT, pb_ibT, ha, pb_b1]
/-- a fault is thrown -/
theorem re_mf (W : re_W σ θ μ ν (pa_tp S) N T) (k : Int32) : ∃ x θ', cl_X7_must (cl_n σ + 1) θ false k = some (.inr x, θ') ∧ re_X σ θ' x k T.1 := by
  obtain ⟨hG, ⟨-, -, -, g4, -⟩, -⟩ := W
  obtain ⟨h1, h2, ⟨h3, -⟩, -⟩ := hG
  have ne : cl_n σ + 1 ≠ cl_n θ + 1 := by omega
  obtain ⟨τ, hτ⟩ : ∃ τ, τ = cl_wi (cl_wi (cl_nw θ 8 0) (cl_n θ + 1) 6 k) (cl_n θ + 1) 7 (nI T.1) := ⟨_, rfl⟩
  have kk : cl_k τ (cl_n θ + 1) = 8 := by rw [hτ]; show cl_k (cl_nw θ 8 0) (cl_n θ + 1) = 8; rw [pc_k_nw, if_pos rfl]
  have e10 : 10 + (cl_n θ + 1) - 10 = cl_n θ + 1 := by omega
  refine ⟨10 + (cl_n θ + 1), τ, ?_, by omega, ?_, by omega, by rw [e10]; exact kk, ?_, ?_⟩
  · unfold cl_X7_must cl_X8_init
    have r0 : ∀ j, cl_r (cl_nw θ 8 0) (cl_n θ + 1) j = 0 := fun j => by rw [pc_r_nw, if_pos rfl]
    rw [pb_ibF, pb_gdD _ (by rw [pc_k_nw, if_neg ne]; exact h3), pc_i_nw, if_neg ne, g4, pb_gdD _ ⟨by rw [pc_k_nw, if_pos rfl], r0 0, r0 1, r0 2, r0 3, r0 4⟩, pb_b1, ← hτ, pb_gdD _ kk]
  · rw [hτ]
    have hn := h1.1
    exact pc_fr_sin (pc_fr_sin (pc_fr_tr h1 (pc_fr_nw θ 8 0)) (by omega) _) (by omega) _
  · rw [e10, hτ, pc_wi, pc_i_si_s, pc_wi, pc_i_si_s]
    rfl
  · rw [e10, hτ, pc_wi, pc_i_si_s]
    rfl
theorem re_bxl {ρ α : Type} (r : ρ) (σ : cl_S) (f : ρ → cl_S → Option α) (g : Nat → cl_S → Option α) : dx_bx (some (.inl r, σ)) f g = f r σ := rfl
theorem re_bxr {ρ α : Type} (x : Nat) (σ : cl_S) (f : ρ → cl_S → Option α) (g : Nat → cl_S → Option α) : dx_bx (some (.inr x, σ)) f g = g x σ := rfl
theorem re_is {tk : Nat} (h5 : tk ≤ 5) (val : Int32) {c x : Nat} (hcx : (c = 44 ∧ x = 3) ∨ (c = 59 ∧ x = 4)) : (rd_k tk = 3 ∧ rd_v tk val = nI c) ↔ tk = x := by
  have h6 : tk = 0 ∨ tk = 1 ∨ tk = 2 ∨ tk = 3 ∨ tk = 4 ∨ tk = 5 := by omega
  have n0 : ¬ nI 0 = (3 : Int32) := by decide
  have n1 : ¬ nI 1 = (3 : Int32) := by decide
  have n2 : ¬ nI 2 = (3 : Int32) := by decide
  have n4 : ¬ (4 : Int32) = (3 : Int32) := by decide
  have a1 : ¬ (44 : Int32) = nI 59 := by decide
  have a2 : ¬ (59 : Int32) = nI 44 := by decide
  rcases h6 with rfl | rfl | rfl | rfl | rfl | rfl <;> rcases hcx with ⟨rfl, rfl⟩ | ⟨rfl, rfl⟩
  · exact ⟨fun h => absurd h.1 n0, fun h => by omega⟩
  · exact ⟨fun h => absurd h.1 n0, fun h => by omega⟩
  · exact ⟨fun h => absurd h.1 n1, fun h => by omega⟩
  · exact ⟨fun h => absurd h.1 n1, fun h => by omega⟩
  · exact ⟨fun h => absurd h.1 n2, fun h => by omega⟩
  · exact ⟨fun h => absurd h.1 n2, fun h => by omega⟩
  · exact ⟨fun _ => rfl, fun _ => ⟨rfl, rfl⟩⟩
  · exact ⟨fun h => absurd h.2 a1, fun h => by omega⟩
  · exact ⟨fun h => absurd h.2 a2, fun h => by omega⟩
  · exact ⟨fun _ => rfl, fun _ => ⟨rfl, rfl⟩⟩
  · exact ⟨fun h => absurd h.1 n4, fun h => by omega⟩
  · exact ⟨fun h => absurd h.1 n4, fun h => by omega⟩
/-- **sign** -/
theorem re_sign (h : pc_R σ S) (hm : pm_R μ S) (W : re_W σ θ μ ν (pa_tp S) N T) {c x : Nat} (hcx : (c = 44 ∧ x = 3) ∨ (c = 59 ∧ x = 4)) : (T.2.2.1 = x ∧ ∃ T' g ν' v, cl_X7_sign (cl_n σ + 1) θ (nI c) = some (.inl (), cl_si θ (cl_n σ + 1) g) ∧ mo_takes ν true 1 = some (v, ν') ∧ re_W σ (cl_si θ (cl_n σ + 1) g) μ ν' (pa_tp S) N T' ∧ T.1 < T'.1) ∨ (T.2.2.1 ≠ x ∧ ∃ y θ' ν', cl_X7_sign (cl_n σ + 1) θ (nI c) = some (.inr y, θ') ∧ mo_takes ν false 1 = some ((0 : Int32), ν') ∧ re_X σ θ' y 1 T.1 ∧ re_Y μ ν' 1 T.1) := by
  have W0 := W
  obtain ⟨hG, ⟨g1, g2, g3, g4, g5⟩, -, -, ⟨k1, k2, k3, k4, -⟩⟩ := W
  have kr := hG.2.2.1.1
  have his := re_is k3 T.2.2.2 hcx
  by_cases hx : T.2.2.1 = x
  · left
    obtain ⟨T', g, ν', e1, e2, W', e3⟩ := re_next h hm W0
    obtain ⟨i1, i2⟩ := his.mpr hx
    refine ⟨hx, T', g, ν', _, ?_, re_tt W0 e2 1, W', by rw [e3]; exact k4 (by omega)⟩
    unfold cl_X7_sign cl_X7_is cl_X7_must
    rw [pb_gdD _ kr, pb_gdD _ kr, g3, i1, if_pos rfl, g5, i2, if_pos rfl, pb_b1, pb_ibT, re_bxl, pb_gdD _ kr, e1, pb_b1]
  · right
    obtain ⟨y, θ', e1, hX⟩ := re_mf W0 1
    obtain ⟨ν', e2, hY⟩ := re_tf W0 h 1
    have hf : cl_X7_is (cl_n σ + 1) θ (3 : Int32) (nI c) = some false := by
      unfold cl_X7_is
      rw [pb_gdD _ kr, g3, g5]
      by_cases h1 : rd_k T.2.2.1 = 3
      · rw [if_pos h1, if_neg (fun h2 => hx (his.mp ⟨h1, h2⟩))]
      · rw [if_neg h1]
    refine ⟨hx, y, θ', ν', ?_, e2, hX, hY⟩
    unfold cl_X7_sign
    rw [pb_gdD _ kr, hf, pb_b1, e1, re_bxr]
/-- **figure** -/
theorem re_fig (h : pc_R σ S) (hm : pm_R μ S) (W : re_W σ θ μ ν (pa_tp S) N T) (lo hi : Int32) : (T.2.2.1 = 2 ∧ pq_in T.2.2.2 lo hi = true ∧ ∃ T' g ν', cl_X7_figure (cl_n σ + 1) θ lo hi = some (.inl T.2.2.2, cl_si θ (cl_n σ + 1) g) ∧ mo_figure ν lo hi = some (T.2.2.2, ν') ∧ re_W σ (cl_si θ (cl_n σ + 1) g) μ ν' (pa_tp S) N T' ∧ T.1 < T'.1) ∨ (∃ kd y θ' ν', cl_X7_figure (cl_n σ + 1) θ lo hi = some (.inr y, θ') ∧ mo_figure ν lo hi = some ((0 : Int32), ν') ∧ re_X σ θ' y kd T.1 ∧ re_Y μ ν' kd T.1) := by
  have W0 := W
  obtain ⟨hG, ⟨g1, g2, g3, g4, g5⟩, hM, ⟨j1, j2, j3, j4⟩, ⟨k1, k2, k3, k4, -⟩⟩ := W
  have kr := hG.2.2.1.1
  have htk : rd_k T.2.2.1 = 2 ↔ T.2.2.1 = 2 := by
    have h6 : T.2.2.1 = 0 ∨ T.2.2.1 = 1 ∨ T.2.2.1 = 2 ∨ T.2.2.1 = 3 ∨ T.2.2.1 = 4 ∨ T.2.2.1 = 5 := by omega
    rcases h6 with e | e | e | e | e | e <;> rw [e] <;> decide
  have hmk : ν.1 6 = (2 : Int32) ↔ T.2.2.1 = 2 := by rw [j3]; exact pb_inj (b := 2) (by omega) (by omega)
  have hw := re_well hM
  by_cases h2 : T.2.2.1 = 2
  · have hv : rd_v T.2.2.1 T.2.2.2 = T.2.2.2 := by rw [h2]; rfl
    have j7 := j4 (by omega)
    have hin : cl_X0_isIn (T.2.2.2).toInt64 lo.toInt64 hi.toInt64 = some (pq_in T.2.2.2 lo hi) := pq_c _ _ _
    cases hb : pq_in T.2.2.2 lo hi with
    | true =>
      left
      obtain ⟨T', g, ν', e1, e2, W', e3⟩ := re_next h hm W0
      refine ⟨h2, rfl, T', g, ν', ?_, ?_, W', by rw [e3]; exact k4 (by omega)⟩
      · unfold cl_X7_figure cl_X7_figure_J14 cl_X7_must
        rw [pb_gdD _ kr, g3, if_pos (htk.mpr h2), pb_gdD _ kr, pb_ibT, re_bxl, pb_gdD _ kr, g5, hv, hin, pb_b1, hb, pb_ibT, re_bxl, pb_gdD _ kr, e1, pb_b1, g5, hv]
      · unfold mo_figure mo_figure_J22
        rw [hw, pb_b1, pb_ibT, if_pos (hmk.mpr h2), j7, pq_m, pb_b1, hb, re_tt W0 e2, pb_b2, j7]
    | false =>
      right
      obtain ⟨y, θ', e1, hX⟩ := re_mf W0 2
      obtain ⟨ν', e2, hY⟩ := re_tf W0 h 2
      refine ⟨2, y, θ', ν', ?_, ?_, hX, hY⟩
      · have mt : cl_X7_must (cl_n σ + 1) θ true 1 = some (.inl (), θ) := rfl
        unfold cl_X7_figure cl_X7_figure_J14
        rw [pb_gdD _ kr, g3, if_pos (htk.mpr h2), pb_gdD _ kr, mt, re_bxl, pb_gdD _ kr, g5, hv, hin, pb_b1, hb, e1, re_bxr]
      · unfold mo_figure mo_figure_J22
        rw [hw, pb_b1, pb_ibT, if_pos (hmk.mpr h2), j7, pq_m, pb_b1, hb, e2, pb_b2]
  · right
    obtain ⟨y, θ', e1, hX⟩ := re_mf W0 1
    obtain ⟨ν', e2, hY⟩ := re_tf W0 h 1
    refine ⟨1, y, θ', ν', ?_, ?_, hX, hY⟩
    · unfold cl_X7_figure cl_X7_figure_J14
      rw [pb_gdD _ kr, g3, if_neg (fun h => h2 (htk.mp h)), pb_gdD _ kr, e1, re_bxr]
    · unfold mo_figure
      rw [hw, pb_b1, pb_ibT, if_neg (fun h => h2 (hmk.mp h)), e2, pb_b2]
end RE
