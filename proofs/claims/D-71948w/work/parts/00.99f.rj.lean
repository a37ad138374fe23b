/-! net -/
def rj_0 : pn_N := ((0, 0, 0, 0), fun _ => 0, fun _ => -1, fun _ => 0, fun _ => 0, fun _ => 0)
theorem rj_0ok : pn_ok rj_0 := ⟨Nat.zero_le _, Nat.zero_le _, fun h => absurd h (Nat.lt_irrefl 0), fun p hp => absurd hp (Nat.not_lt_zero p), fun c hc => absurd hc (Nat.not_lt_zero c)⟩
def rj_f (S : pa_S) (kd : Int32) : pa_S := (S.1, S.2.1, S.2.2.1, (S.2.2.2.1.1, 0), (kd, S.2.2.2.2.1.2), S.2.2.2.2.2)
def rj_s (S : pa_S) (N : pn_N) : pa_S := ((N, S.1.2.1, 0), S.2.1, S.2.2.1, (S.2.2.2.1.1, 0), S.2.2.2.2.1, S.2.2.2.2.2)
section RJ
variable {σ θ : cl_S} {μ ν : mo_S} {S : pa_S} {N : pn_N}
/-- a reader is made -/
theorem rj_init (h : pc_R σ S) : ∃ θ, cl_X7_init (cl_n σ + 1) 29 (cl_nw σ 7 0) (nI (pa_tp S)) = some θ ∧ rc_G σ θ rj_0 ∧ cl_i θ (cl_n σ + 1) 1 = nI (pa_tp S) ∧ cl_i θ (cl_n σ + 1) 2 = 0 := by
  have h54 := h.1.1
  have h18 : cl_K = 18 := rfl
  obtain ⟨σ1, e1⟩ : ∃ σ1, σ1 = cl_nw σ 7 0 := ⟨_, rfl⟩
  have n1 : cl_n σ1 = cl_n σ + 1 := by rw [e1]; rfl
  obtain ⟨σ2, i1, i2, i3, i4, i5, i6, i7, i8⟩ := pl_init σ1 (by omega)
  rw [n1] at i1 i3 i4 i5 i6 i7 i8
  obtain ⟨a1, a2, a3, a4⟩ := i2.2 (cl_n σ + 1) (by omega)
  have k1 : cl_k σ2 (cl_n σ + 1) = 7 := by rw [a1, e1, pc_k_nw, if_pos rfl]
  have j1 : cl_i σ2 (cl_n σ + 1) = fun _ => 0 := by rw [a3 (fun h => h), e1, pc_i_nw, if_pos rfl]
  obtain ⟨θ, hθ⟩ : ∃ θ, θ = cl_wi (cl_wr (cl_wr σ2 (cl_n σ + 1) 6 (cl_n σ + 2)) (cl_n σ + 1) 0 29) (cl_n σ + 1) 1 (nI (pa_tp S)) := ⟨_, rfl⟩
  have f12 : pc_fr σ2 θ (fun y => y = cl_n σ + 1) (fun y => y = cl_n σ + 1) := by
    rw [hθ]
    exact pc_fr_tr (pc_fr_tr (pc_fr_sr σ2 _ _ rfl) (pc_fr_sr _ _ _ rfl)) (pc_fr_si _ _ _ rfl)
  have nθ : cl_n θ = cl_n σ + 8 := by rw [hθ]; exact i3
  have ie : ∀ y, y ≠ cl_n σ + 1 → y ≤ cl_n σ2 → cl_i θ y = cl_i σ2 y ∧ cl_r θ y = cl_r σ2 y ∧ cl_k θ y = cl_k σ2 y := fun y hy hle => ⟨(f12.2 y hle).2.2.1 hy, (f12.2 y hle).2.2.2 hy, (f12.2 y hle).1⟩
  refine ⟨θ, ?_, ⟨?_, by omega, ⟨?_, ?_, ?_⟩, ⟨pc_sh_fr f12 (fun h => by have : cl_n σ + 2 = cl_n σ + 1 := h; omega) i4, ?_, fun p hp => absurd hp (Nat.not_lt_zero p), fun c hc => absurd hc (Nat.not_lt_zero c), fun j hj => ?_⟩, rj_0ok, fun p hp hp9 => ?_⟩, ?_, ?_⟩
  · unfold cl_X7_init
    rw [← e1, n1, i1, pb_b1, pb_gdD _ k1, pb_let, hθ]
  · rw [hθ]
    have fσ2 : pc_fr σ σ2 pc_0 pc_0 := by rw [e1] at i2; exact pc_fr_tr (pc_fr_nw σ 7 0) i2
    exact pc_fr_sin (pc_fr_srn (pc_fr_srn fσ2 (by omega) _) (by omega) _) (by omega) _
  · rw [(f12.2 (cl_n σ + 1) (by omega)).1]
    exact k1
  · rw [hθ]
    show cl_r (cl_wr (cl_wr σ2 (cl_n σ + 1) 6 (cl_n σ + 2)) (cl_n σ + 1) 0 29) (cl_n σ + 1) 0 = 29
    rw [pc_wr, pc_r_sr, if_pos rfl, va_up_self]
  · rw [hθ]
    show cl_r (cl_wr (cl_wr σ2 (cl_n σ + 1) 6 (cl_n σ + 2)) (cl_n σ + 1) 0 29) (cl_n σ + 1) 6 = cl_n σ + 2
    rw [pc_wr, pc_r_sr, if_pos rfl, va_up_ne _ _ (by decide), pc_wr, pc_r_sr, if_pos rfl, va_up_self]
  · rw [(ie (cl_n σ + 2) (by omega) (by omega)).1, i5, i5, i5, i5]
    exact ⟨nI_0.symm, nI_0.symm, nI_0.symm, nI_0.symm⟩
  · rw [(ie (cl_n σ + 2 + 1) (by omega) (by omega)).2.1, (ie (cl_n σ + 2 + 6) (by omega) (by omega)).2.1]
    exact ⟨Or.inl (i6 j).1, Or.inl (i6 j).2⟩
  · rw [(ie (cl_n σ + 4) (by omega) (by omega)).1]
    exact i7 p hp9
  · rw [hθ, pc_wi, pc_i_si_s]
    rfl
  · rw [hθ, pc_wi, pc_i_si_s]
    show cl_i (cl_wr (cl_wr σ2 (cl_n σ + 1) 6 (cl_n σ + 2)) (cl_n σ + 1) 0 29) (cl_n σ + 1) 2 = 0
    show cl_i σ2 (cl_n σ + 1) 2 = 0
    rw [j1]
/-- the Model begins -/
theorem rj_m (hm : pm_R μ S) {q : mo_S → Option (Int32 × mo_S)} (hq : q = fun x => dx_b1 (mo_advances (mo_I (mo_I x 4 (0 : Int32)) 3 (-1 : Int32))) fun σ1 => (if (σ1.1 6) = (1 : Int32) then (if (σ1.1 7) = (119 : Int32) then (mo_net_J58 σ1 true) else (mo_net_J58 σ1 false)) else (mo_net_J58 σ1 false))) (hs : ∀ x, re_M μ (mo_I (mo_I x 4 (0 : Int32)) 3 (-1 : Int32)) rj_0 → ∃ r, q x = some r) : ∃ x, re_M μ (mo_I (mo_I x 4 (0 : Int32)) 3 (-1 : Int32)) rj_0 ∧ mo_net μ = q x := by
  have key := pb_cnti (b := fun y : Int32 × mo_S => mo_net_L2 y.2 y.1) (fun i (y : mo_S) => (nI i, y)) (fun i y => y.1 = μ.1 ∧ (∀ k, k ≠ 6 → y.2 k = μ.2 k) ∧ ∀ j, j < i → y.2 6 j = 0) 52 (fun z => ∃ x, re_M μ (mo_I (mo_I x 4 (0 : Int32)) 3 (-1 : Int32)) rj_0 ∧ some z = q x) (fun i hi y hy => ?_) (fun y hy => ?_) dx_fu (by unfold dx_fu; omega) μ ⟨rfl, fun _ _ => rfl, fun j hj => absurd hj (Nat.not_lt_zero j)⟩
  · obtain ⟨z, hz, x, hx, hzx⟩ := key
    refine ⟨x, hx, ?_⟩
    unfold mo_net
    rw [nI_0] at hz
    rw [← hzx]
    exact hz
  · obtain ⟨y1, y2, y3⟩ := hy
    refine ⟨mo_A y 6 i 0, ⟨y1, fun k hk => ?_, fun j hj => ?_⟩, ?_⟩
    · show va_up y.2 6 _ k = _
      rw [va_up_ne _ _ hk]
      exact y2 k hk
    · rw [pe_mA]
      unfold upd
      split
      · rfl
      · exact y3 j (by omega)
    · show mo_net_L2 y (nI i) = some (.inl (nI (i + 1), mo_A y 6 i 0))
      unfold mo_net_L2
      have h52 : ¬ (52 : Int32) ≤ nI i := fun h => absurd ((pb_le (a := 52) (by omega) (by omega)).mp h) (by omega)
      rw [if_neg h52, pn_gdi _ hi (by omega), nI_clamp (by omega), ← nI_succ]
  · obtain ⟨y1, y2, y3⟩ := hy
    have hM : re_M μ (mo_I (mo_I y 4 (0 : Int32)) 3 (-1 : Int32)) rj_0 := by
      refine ⟨fun k hk => ?_, y2, rfl, ?_⟩
      · show upd (upd y.1 4 _) 3 _ k = _
        unfold upd
        rw [if_neg (by omega), if_neg (by omega), y1]
      · show pn_m (y.2 6) rj_0
        refine ⟨?_, ?_, ?_, ?_, fun p hp => absurd hp (Nat.not_lt_zero p), fun c hc => absurd hc (Nat.not_lt_zero c)⟩ <;> (rw [y3 _ (by omega)]; exact nI_0.symm)
    obtain ⟨r, hr⟩ := hs y hM
    refine ⟨r, ?_, y, hM, hr.symm⟩
    show mo_net_L2 y (nI 52) = _
    have e : mo_net_L2 y (nI 52) = dx_ex (q y) := by
      unfold mo_net_L2
      rw [if_pos (by decide), hq]
    rw [e, hr]
    rfl
/-- **net** -/
theorem rj_net (h : pc_R σ S) (hm : pm_R μ S) : pq_any (cl_X0_net 19 σ) (mo_net μ) := by
  have h54 := h.1.1
  obtain ⟨x0, x1, x2, x3, -⟩ := h.1.2.1
  have htp := h.2.2.2.2.2.2.1
  obtain ⟨θ, e1, G, g1, g2⟩ := rj_init h
  have hf := G.1
  -- both sides read
  have both : ∀ x, re_M μ (mo_I (mo_I x 4 (0 : Int32)) 3 (-1 : Int32)) rj_0 → rh_F σ μ (cl_X7_all (cl_n σ + 1) θ) (dx_b1 (mo_advances (mo_I (mo_I x 4 (0 : Int32)) 3 (-1 : Int32))) fun σ1 => (if (σ1.1 6) = (1 : Int32) then (if (σ1.1 7) = (119 : Int32) then (mo_net_J58 σ1 true) else (mo_net_J58 σ1 false)) else (mo_net_J58 σ1 false))) := by
    intro x hM
    obtain ⟨hH, -⟩ := re_H h G
    obtain ⟨ν0, hν0⟩ : ∃ ν0, ν0 = mo_I (mo_I x 4 (0 : Int32)) 3 (-1 : Int32) := ⟨_, rfl⟩
    have m4 : ν0.1 4 = nI 0 := by rw [hν0]; exact nI_0.symm
    rw [← hν0] at hM ⊢
    obtain ⟨m1, m2, m3, m5⟩ := hM
    have hm0 := hm
    obtain ⟨-, -, -, -, ⟨p1, p2⟩, -⟩ := hm
    obtain ⟨T, g', ν', c1, c2, c3, c4, c5, c6, c7, c8⟩ := rd_next hH (a := 0) (Nat.zero_le _) g1 (g := cl_i θ (cl_n σ + 1)) (by rw [g2]; exact nI_0.symm) (by rw [m1 1 (by omega)]; exact p1) (fun j hj => by rw [m2 4 (by omega)]; exact p2 j hj) m4
    rw [pc_si_self] at c1
    have W : re_W σ (cl_si θ (cl_n σ + 1) g') μ ν' (pa_tp S) rj_0 T := ⟨rc_G_r G g', by rw [pc_i_si_s]; exact c2, ⟨fun k hk => (c5 k (by omega)).trans (m1 k hk), fun k hk => by rw [c4]; exact m2 k hk, (c5 3 (by omega)).trans m3, by rw [c4]; exact m5⟩, c6, c7⟩
    unfold cl_X7_all
    rw [pb_gdD _ G.2.2.1.1, c1, pb_b1, c3, pb_b1]
    exact ri_all h hm0 W rfl rfl
  obtain ⟨x, hx, ex⟩ := rj_m hm (q := fun x => dx_b1 (mo_advances (mo_I (mo_I x 4 (0 : Int32)) 3 (-1 : Int32))) fun σ1 => (if (σ1.1 6) = (1 : Int32) then (if (σ1.1 7) = (119 : Int32) then (mo_net_J58 σ1 true) else (mo_net_J58 σ1 false)) else (mo_net_J58 σ1 false))) rfl (fun x hx => by
    rcases both x hx with ⟨θ', ν', N, -, -, -, -, e⟩ | ⟨kd, fr, y, θ', ν', -, -, -, e⟩
    · have hc := pj_copies (μ := mo_I ν' 1 (0 : Int32)) (k0 := 6) (k2 := 5) (by decide) (p1 := 0) (p3 := 0) (by decide) (by decide) (by decide)
      rw [nI_0] at hc
      rw [hc, pb_b1] at e
      exact ⟨_, e⟩
    · exact ⟨_, e⟩)
  have hb := both x hx
  have ex' : mo_net μ = dx_b1 (mo_advances (mo_I (mo_I x 4 (0 : Int32)) 3 (-1 : Int32))) fun σ1 => (if (σ1.1 6) = (1 : Int32) then (if (σ1.1 7) = (119 : Int32) then (mo_net_J58 σ1 true) else (mo_net_J58 σ1 false)) else (mo_net_J58 σ1 false)) := ex
  rw [ex']
  have n19 : (19 : Nat) ≠ cl_n σ + 1 := by omega
  have k19 : cl_k (cl_nw σ 7 0) 19 = 0 := by rw [pc_k_nw, if_neg n19]; exact x0
  have r19 : cl_r (cl_nw σ 7 0) 19 = cl_r σ 19 := by rw [pc_r_nw, if_neg n19]
  have i19 : cl_i (cl_nw σ 7 0) 19 = cl_i σ 19 := by rw [pc_i_nw, if_neg n19]
  unfold cl_X0_net
  rw [pb_gdD _ k19, r19, x2, pb_gdD _ (by decide), i19, htp.2.1, e1, pb_b1, pb_gdD _ G.2.2.1.1]
  rcases hb with ⟨θ', ν', N, o1, G', hP, M', q1⟩ | ⟨kd, fr, y, θ', ν', o1, hX, hY, q1⟩
  · rw [o1, re_bxl, q1]
    have hR' : pc_R θ' S := pc_R_sc G'.1 (fun _ _ h => h.elim) (fun _ _ h => h.elim) h
    have hN : pn_ok N := G'.2.2.2.2.1
    have hP9 := hN.1
    obtain ⟨θ1, hθ1⟩ : ∃ θ1, θ1 = cl_wi θ' 19 2 (0 : Int32) := ⟨_, rfl⟩
    rw [← hθ1]
    have hMM : pc_M θ1 (cl_n σ + 2) N := by
      rw [hθ1]
      refine pi_M_fr (pc_fr_si θ' 19 _ (Z := fun y => y = 19) (Y := pc_0) rfl) ⟨fun y _ hz => ?_, fun _ _ h => h.elim⟩ hN G'.2.2.2.1
      have hz' : y = 19 := hz
      refine ⟨by omega, ?_⟩
      rw [hz']
      exact pf_kd hR'.1 (by omega) (by omega)
    obtain ⟨θ2, e2, f2, N2⟩ := pi_stirred hMM hN hP
    have hRa : pc_R (cl_si σ 19 (upd (cl_i σ 19) 2 0)) ((pa_net S, pa_past S, pa_acts S), S.2.1, S.2.2.1, (S.2.2.2.1.1, 0), S.2.2.2.2.1, S.2.2.2.2.2) := by
      have h0 := h
      obtain ⟨-, -, -, hp, -, -, tp, ⟨s1, s2, s3⟩, -⟩ := h
      exact pc_R_x h0 _ rfl rfl rfl rfl hp ⟨by show 0 ≤ 130; omega, nI_0.symm, fun j hj => absurd hj (Nat.not_lt_zero j)⟩ ⟨s1, s2, s3⟩
    have fa : pc_fr (cl_si σ 19 (upd (cl_i σ 19) 2 0)) θ2 pc_0 pc_0 := by
      have hn := G'.1.1
      have hn2 := f2.1
      have nθ1 : cl_n θ1 = cl_n θ' := by rw [hθ1]; rfl
      have nn : cl_n (cl_si σ 19 (upd (cl_i σ 19) 2 0)) = cl_n σ := rfl
      refine ⟨by omega, fun y hy => ?_⟩
      have hy' : y ≤ cl_n σ := hy
      obtain ⟨a1, a2, a3, a4⟩ := G'.1.2 y hy'
      obtain ⟨b1, b2, b3, b4⟩ := f2.2 y (by omega)
      refine ⟨?_, ?_, fun _ => ?_, fun _ => ?_⟩
      · rw [b1, hθ1]
        exact a1
      · rw [b2, hθ1]
        exact a2
      · rw [b3 (fun h => h), hθ1]
        by_cases h19 : y = 19
        · subst h19
          rw [pc_wi, pc_i_si_s, pc_i_si_s, a3 (fun h => h)]
        · rw [pc_wi, pc_i_si_n _ _ _ _ h19, pc_i_si_n _ _ _ _ h19]
          exact a3 (fun h => h)
      · rw [b4 (fun h => by have : y = cl_n σ + 2 + 6 := h; omega), hθ1]
        exact a4 (fun h => h)
    have hR2 := pc_R_sc fa (fun _ _ h => h.elim) (fun _ _ h => h.elim) hRa
    obtain ⟨θ3, e3, hR3, i3, k3⟩ := po_bec hR2 (o := cl_n σ + 2) (by omega) N2 hN
    have hR3' := hR3
    obtain ⟨-, -, hN3, ⟨w1, w2, w3⟩, -, -, wt, ⟨-, wc2, wc3⟩, -⟩ := hR3
    obtain ⟨y0, -, -, y3, -⟩ := hR3'.1.2.1
    have hRf : pc_R (cl_wi θ3 19 9 (0 : Int32)) (rj_s S N) := pc_R_x hR3' _ rfl rfl rfl rfl ⟨w1, by show 0 ≤ 16; omega, fun i hi => by have : i < 0 := hi; omega⟩ ⟨wt.1, wt.2.1, wt.2.2⟩ ⟨nI_0.symm, wc2, wc3⟩
    have k19' : cl_k θ' 19 = 0 := hR'.1.2.1.1
    have r194 : cl_r θ1 19 4 = 30 := by rw [hθ1]; exact hR'.1.2.1.2.2.2.1
    have k7 : cl_k θ1 (cl_n σ + 1) = 7 := by rw [hθ1]; exact G'.2.2.1.1
    have r6 : cl_r θ1 (cl_n σ + 1) 6 = cl_n σ + 2 := by rw [hθ1]; exact G'.2.2.1.2.2
    have k2 : cl_k θ1 (cl_n σ + 2) = 2 := hMM.1.2.1
    have k30 : cl_k θ2 30 = 2 := hR2.2.2.1.1.1.2.1
    have v30 : cl_i (cl_wi θ3 19 9 (0 : Int32)) 30 0 = nI (pn_P N) := by
      rw [pc_wi, pc_i_si_n _ _ _ _ (by decide)]
      exact hN3.1.2.1.1
    have k30' : cl_k (cl_wi θ3 19 9 (0 : Int32)) 30 = 2 := hN3.1.1.2.1
    have r30' : cl_r (cl_wi θ3 19 9 (0 : Int32)) 19 4 = 30 := y3
    have hc := pj_copies (μ := mo_I ν' 1 (0 : Int32)) (k0 := 6) (k2 := 5) (by decide) (p1 := 0) (p3 := 0) (by decide) (by decide) (by decide)
    rw [nI_0] at hc
    obtain ⟨ψ, hψ⟩ : ∃ ψ : mo_S, ψ = ((mo_I ν' 1 (0 : Int32)).1, va_up (mo_I ν' 1 (0 : Int32)).2 5 (va_cpy ((mo_I ν' 1 (0 : Int32)).2 6) ((mo_I ν' 1 (0 : Int32)).2 5) 0 0 52)) := ⟨_, rfl⟩
    rw [← hψ] at hc
    have ψ5 : pn_m (ψ.2 5) N := by
      refine pn_m_c hN (fun i hi => ?_) M'.2.2.2
      rw [hψ]
      show va_up ν'.2 5 (va_cpy (ν'.2 6) (ν'.2 5) 0 0 52) 5 i = _
      rw [va_up_self, pk_cpy _ _ _ _ hi]
    have ψa : ∀ k, k ≠ 5 → k ≠ 6 → ψ.2 k = μ.2 k := by
      intro k h5 h6
      rw [hψ]
      show va_up ν'.2 5 _ k = _
      rw [va_up_ne _ _ h5]
      exact M'.2.1 k h6
    have ψi : ∀ k, k ≠ 1 → (k < 3 ∨ 7 < k) → ψ.1 k = μ.1 k := by
      intro k h1 h37
      rw [hψ]
      show upd ν'.1 1 (0 : Int32) k = _
      unfold upd
      rw [if_neg h1]
      exact M'.1 k h37
    have ψ1 : ψ.1 1 = 0 := by rw [hψ]; rfl
    have c0 : (0 : Int32).toNatClampNeg = 0 := by decide
    refine ⟨rj_s S N, nI (pn_P N), cl_wi θ3 19 9 (0 : Int32), mo_I ψ 8 (0 : Int32), ?_, ?_, hRf, ?_⟩
    · rw [pb_gdD _ k19', r194, pb_gdD _ (by decide), pb_gdD _ k7, r6, pb_gdD _ (by omega), pb_gdD _ k2, e2, pb_b2, pb_gdD _ (by omega), pb_gdD _ k30, e3, pb_b2, pb_gdD _ (by decide), pb_gdD _ k3, r30', pb_gdD _ (by decide), pb_gdD _ k30', v30]
    · rw [hc, pb_b1, c0]
      have : (mo_I ψ 8 (0 : Int32)).2 5 0 = nI (pn_P N) := ψ5.1
      rw [this]
    · obtain ⟨m1, m2, m3, m4, m5, ⟨m6, m7⟩, m8⟩ := hm
      have i8 : ∀ k, k ≠ 8 → (mo_I ψ 8 (0 : Int32)).1 k = ψ.1 k := by
        intro k hk
        show upd ψ.1 8 _ k = _
        unfold upd
        rw [if_neg hk]
      refine ⟨ψ5, ⟨nI_0.symm, fun k hk => absurd hk (Nat.not_lt_zero k)⟩, fun j hj => ?_, fun j hj => ?_, ⟨?_, fun j hj => absurd hj (Nat.not_lt_zero j)⟩, ⟨?_, ?_⟩, ⟨?_, fun i hi => ?_⟩⟩
      · have := m3 j hj
        unfold pm_img at this ⊢
        show (_ ∧ ψ.2 10 j = 0) ∨ ∃ N, _ ∧ ψ.2 10 j = 1 ∧ pn_m (fun i => ψ.2 9 (52 * j + i)) N
        rw [ψa 10 (by decide) (by decide), ψa 9 (by decide) (by decide)]
        exact this
      · have := m4 j hj
        unfold pm_row at this ⊢
        show (_ ∧ ψ.2 0 j = -1000000) ∨ ∃ (lane len : Nat) (f : Nat → Int32), _ ∧ ψ.2 0 j = nI lane ∧ ψ.2 1 j = nI len ∧ ∀ i, i < len → ψ.2 2 (40 * j + i) = f i
        rw [ψa 0 (by decide) (by decide), ψa 1 (by decide) (by decide), ψa 2 (by decide) (by decide)]
        exact this
      · rw [i8 1 (by decide), ψ1]
        exact nI_0.symm
      · rw [i8 2 (by decide), ψi 2 (by decide) (by omega)]
        exact m6
      · rw [i8 0 (by decide), ψi 0 (by decide) (by omega)]
        exact m7
      · rw [i8 11 (by decide), ψi 11 (by decide) (by omega)]
        exact m8.1
      · show ψ.2 16 i = _
        rw [ψa 16 (by decide) (by decide)]
        exact m8.2 i hi
  · rw [o1, re_bxr, q1]
    obtain ⟨y1, y2, y3, y4, y5, y6⟩ := hX
    have hR' : pc_R θ' S := pc_R_sc y2 (fun _ _ h => h.elim) (fun _ _ h => h.elim) h
    have k19' : cl_k θ' 19 = 0 := hR'.1.2.1.1
    have ny : y - 10 ≠ 19 := by omega
    have v7 : cl_i (cl_wi θ' 19 3 kd) (y - 10) 7 = nI fr := by rw [pc_wi, pc_i_si_n _ _ _ _ ny]; exact y6
    refine ⟨rj_f S kd, (-1000100 : Int32) - nI fr, cl_si θ' 19 (upd (upd (cl_i θ' 19) 3 kd) 2 0), mo_I ν' 1 (0 : Int32), ?_, rfl, ?_, ?_⟩
    · rw [if_pos y1, pb_gdD _ y4, pb_gdD _ k19', y5, v7, pb_let, pb_let, rd_wi0 θ' 19 3 kd, rd_wi]
    · have hR0 := hR'
      obtain ⟨-, -, -, hp, -, -, tp, ⟨s1, s2, s3⟩, -⟩ := hR'
      exact pc_R_x hR0 _ rfl rfl rfl rfl hp ⟨by show 0 ≤ 130; omega, nI_0.symm, fun j hj => absurd hj (Nat.not_lt_zero j)⟩ ⟨s1, rfl, s3⟩
    · obtain ⟨z1, z2, z3, z4, z5⟩ := hY
      obtain ⟨m1, m2, m3, m4, m5, ⟨m6, m7⟩, m8⟩ := hm
      have i1 : ∀ k, k ≠ 1 → (mo_I ν' 1 (0 : Int32)).1 k = ν'.1 k := by
        intro k hk
        show upd ν'.1 1 _ k = _
        unfold upd
        rw [if_neg hk]
      refine ⟨?_, ⟨?_, fun k hk => ?_⟩, fun j hj => ?_, fun j hj => ?_, ⟨nI_0.symm, fun j hj => absurd hj (Nat.not_lt_zero j)⟩, ⟨?_, ?_⟩, ⟨?_, fun i hi => ?_⟩⟩
      · show pn_m (ν'.2 5) _
        rw [z2 5 (by decide)]
        exact m1
      · rw [i1 8 (by decide), z1 8 (by omega)]
        exact m2.1
      · show pn_m (fun i => ν'.2 8 (52 * k + i)) _
        rw [z2 8 (by decide)]
        exact m2.2 k hk
      · have := m3 j hj
        unfold pm_img at this ⊢
        show (_ ∧ ν'.2 10 j = 0) ∨ ∃ N, _ ∧ ν'.2 10 j = 1 ∧ pn_m (fun i => ν'.2 9 (52 * j + i)) N
        rw [z2 10 (by decide), z2 9 (by decide)]
        exact this
      · have := m4 j hj
        unfold pm_row at this ⊢
        show (_ ∧ ν'.2 0 j = -1000000) ∨ ∃ (lane len : Nat) (f : Nat → Int32), _ ∧ ν'.2 0 j = nI lane ∧ ν'.2 1 j = nI len ∧ ∀ i, i < len → ν'.2 2 (40 * j + i) = f i
        rw [z2 0 (by decide), z2 1 (by decide), z2 2 (by decide)]
        exact this
      · rw [i1 2 (by decide)]
        exact z3
      · rw [i1 0 (by decide), z1 0 (by omega)]
        exact m7
      · rw [i1 11 (by decide), z1 11 (by omega)]
        exact m8.1
      · show ν'.2 16 i = _
        rw [z2 16 (by decide)]
        exact m8.2 i hi
end RJ
