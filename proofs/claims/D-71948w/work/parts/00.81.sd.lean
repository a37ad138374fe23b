/-! ask: the trail -/
def pa_str (S : pa_S) (n : Nat) (f : Nat → Int32) : pa_S := (S.1, S.2.1, S.2.2.1, S.2.2.2.1, S.2.2.2.2.1, (n, f))
def sd_b (S : pa_S) (b : Int32) : pa_S := if pa_tn S < 16 then pa_str S (pa_tn S + 1) (upd (pa_tr S) (pa_tn S) b) else S
section SD
variable {σ : cl_S} {μ : mo_S} {S : pa_S}
/-- another trail -/
theorem sd_19 (h : pc_R σ S) {t n : Nat} {f : Nat → Int32} (hd : pd (cl_wr σ 19 11 t)) (ht : t ≠ 0 ∧ cl_k σ t = 5 ∧ cl_r σ t 0 = t + 1 ∧ cl_k σ (t + 1) = 20 ∧ cl_l σ (t + 1) = 16) (h19 : t ≠ 19) (hn : n ≤ 16) (h1 : cl_i σ t 1 = nI n) (h2 : ∀ i, i < n → cl_i σ (t + 1) i = f i) : pc_R (cl_wr σ 19 11 t) (pa_str S n f) := by
  obtain ⟨⟨f0, ⟨x0, x1, x2, x3, x4, x5, x6, x7, x8⟩, ⟨⟨r0, r1⟩, r2⟩, ⟨c0, ⟨c1, c2, c3, c4, c5, c6⟩, cd, ce⟩, fa, fk, s30, s37, ⟨w0, w1, w2, w3, w4⟩⟩, d, ⟨hN, hok⟩, ⟨p1, p2, p3⟩, im, rw_, tp, sc, tr⟩ := h
  have hf := pc_fr_sr σ 19 (va_up (cl_r σ 19) 11 t) (Z := pc_0) (Y := fun y => y = 19) rfl
  have ap : ∀ o, 28 < o → pc_ap σ pc_0 (fun y => y = 19) o := fun o ho => ⟨fun _ _ h => h.elim, fun y _ hy => by have : y = 19 := hy; omega⟩
  have rne : ∀ y, y ≠ 19 → cl_r (cl_wr σ 19 11 t) y = cl_r σ y := by
    intro y hy
    rw [pc_wr, pc_r_sr, if_neg hy]
  have r19 : ∀ k, k ≠ 11 → cl_r (cl_wr σ 19 11 t) 19 k = cl_r σ 19 k := by
    intro k hk
    rw [pc_wr, pc_r_sr, if_pos rfl, va_up_ne _ _ hk]
  have r1911 : cl_r (cl_wr σ 19 11 t) 19 11 = t := by rw [pc_wr, pc_r_sr, if_pos rfl, va_up_self]
  refine ⟨⟨f0, ⟨x0, by rw [r19 0 (by omega)]; exact x1, by rw [r19 1 (by omega)]; exact x2, by rw [r19 4 (by omega)]; exact x3, by rw [r19 5 (by omega)]; exact x4, by rw [r19 6 (by omega)]; exact x5, by rw [r19 7 (by omega)]; exact x6, by rw [r19 8 (by omega)]; exact x7, by rw [r19 10 (by omega)]; exact x8⟩, ⟨⟨r0, r1⟩, fun j hj => by rw [rne 20 (by omega)]; exact r2 j hj⟩, ⟨c0, by rw [rne 46 (by omega)]; exact ⟨c1, c2, c3, c4, c5, c6⟩, cd, ce⟩, fa, fun o o1 o2 => ?_, pc_sh_fr hf (fun hy => by have : (30 : Nat) = 19 := hy; omega) s30, pc_sh_fr hf (fun hy => by have : (37 : Nat) = 19 := hy; omega) s37, ⟨w0, w1, by rw [rne 44 (by omega)]; exact w2, w3, w4⟩⟩, hd, ⟨pc_N_fr hf (ap 30 (by omega)) hok hN, hok⟩, ⟨fun i hi => ?_, p2, fun i hi => ?_⟩, fun i hi => ?_, fun i hi => ?_, tp, sc, ?_⟩
  · have : o ≤ 18 := o2
    rw [rne o (by omega)]
    exact fk o o1 o2
  · rw [rne 53 (by omega)]
    rcases p1 i hi with q | q
    · exact Or.inl q
    · have : 54 < cl_r σ 53 i := by
        have := (pm_lo d (by omega : i < 27) (by rw [pd_p hi]; have := q.1.1; omega)).1
        rw [pd_p hi] at this
        exact this
      exact Or.inr (pc_sh_fr hf (fun hy => by have : cl_r σ 53 i = 19 := hy; omega) q)
  · rw [rne 53 (by omega)]
    obtain ⟨g1, g2, g3⟩ := p3 i hi
    have hq2 : pa_acts S ≤ 16 := p2
    have hi2 : i < pa_acts S := hi
    have : 54 < cl_r σ 53 i := by
      have hj16 : i < 16 := by omega
      have := (pm_lo d (by omega : i < 27) (by rw [pd_p hj16]; exact g1)).1
      rw [pd_p hj16] at this
      exact this
    exact ⟨g1, pc_N_fr hf (ap _ (by omega)) g3 g2, g3⟩
  · rw [rne 54 (by omega)]
    rcases im i hi with q | ⟨N', g1, g2, g3, g4⟩
    · exact Or.inl q
    · have : 54 < cl_r σ 54 i := by
        have := (pm_lo d (by omega : 16 + i < 27) (by rw [pd_i hi]; exact g2)).1
        rw [pd_i hi] at this
        exact this
      exact Or.inr ⟨N', g1, g2, pc_N_fr hf (ap _ (by omega)) g4 g3, g4⟩
  · rw [rne _ (by omega)]
    exact rw_ i hi
  · unfold pr_tr
    rw [r1911, rne t h19]
    exact ⟨ht, hn, h1, h2⟩
theorem sd_lo {t : Nat} : (∀ i, i < 27 → i ≠ 26 → pd_lo (cl_wr σ 19 11 t) i = pd_lo σ i) ∧ pd_lo (cl_wr σ 19 11 t) 26 = t := by
  refine ⟨fun i hi hij => ?_, ?_⟩
  · unfold pd_lo
    rw [pc_wr]
    split
    · rw [pc_r_sr, if_neg (by omega)]
    · split
      · rw [pc_r_sr, if_neg (by omega)]
      · split
        · rw [pc_r_sr, if_neg (by omega)]
        · omega
  · rw [pd_t, pc_wr, pc_r_sr, if_pos rfl, va_up_self]
/-- a new trail -/
theorem sd_new (h : pc_R σ S) : ∃ τ, cl_X5_init (cl_n σ + 1) (cl_nw σ 5 0) = some τ ∧ cl_n τ = cl_n σ + 2 ∧ cl_k τ 19 = 0 ∧ pc_R (cl_wr τ 19 11 (cl_n σ + 1)) (pa_str S 0 (fun _ => 0)) := by
  have hn54 := h.1.1
  obtain ⟨τ, hτ⟩ : ∃ τ, τ = cl_wr (cl_nw (cl_nw σ 5 0) 20 16) (cl_n σ + 1) 0 (cl_n σ + 2) := ⟨_, rfl⟩
  have hf : pc_fr σ τ pc_0 pc_0 := by
    rw [hτ]
    exact pc_fr_srn (pc_fr_nwn (pc_fr_nw σ 5 0) 20 16) (by omega) _
  have hn : cl_n τ = cl_n σ + 2 := by rw [hτ]; rfl
  have hR : pc_R τ S := pc_R_sc hf (fun _ _ h => h.elim) (fun _ _ h => h.elim) h
  have e := (pd_fr hf h.1.1 (fun y hy => hy.elim) h.2.1).2
  have kk : ∀ y, cl_k τ y = if y = cl_n σ + 2 then 20 else if y = cl_n σ + 1 then 5 else cl_k σ y := by intro y; rw [hτ]; rfl
  have ll : ∀ y, cl_l τ y = if y = cl_n σ + 2 then 16 else if y = cl_n σ + 1 then 0 else cl_l σ y := by intro y; rw [hτ]; rfl
  have ii : ∀ y, cl_i τ y = if y = cl_n σ + 2 then (fun _ => 0) else if y = cl_n σ + 1 then (fun _ => 0) else cl_i σ y := by intro y; rw [hτ]; rfl
  refine ⟨τ, ?_, hn, hR.1.2.1.1, sd_19 hR (pd_new h.2.1 (i := 26) (by omega) h.1.1 (fun i hi hij => (sd_lo.1 i hi hij).trans (e i hi)) sd_lo.2 ?_) ⟨by omega, ?_, ?_, ?_, ?_⟩ (by omega) (by omega) ?_ (fun i hi => absurd hi (Nat.not_lt_zero i))⟩
  · unfold cl_X5_init
    rw [pb_gdD _ (by rw [pc_k_nw, pc_n_nw, if_neg (by omega), pc_k_nw, if_pos rfl]), hτ]
    rfl
  · show _ ≤ cl_n τ
    rw [hn]
    unfold pd_sz
    rw [if_neg (by omega), if_neg (by omega)]
    omega
  · rw [kk, if_neg (by omega), if_pos rfl]
  · rw [hτ, pc_wr, pc_r_sr, if_pos rfl, va_up_self]
  · rw [kk, if_pos rfl]
  · rw [ll, if_pos rfl]
  · rw [ii, if_neg (by omega), if_pos rfl]
    exact nI_0.symm
/-- Trail.begins -/
theorem sd_cb (h : pc_R σ S) (b : Int32) : ∃ τ, cl_X5_begins (cl_r σ 19 11) σ b = some τ ∧ pc_R τ (sd_b S b) ∧ cl_r τ = cl_r σ ∧ cl_k τ = cl_k σ ∧ ∀ y, y ≠ cl_r σ 19 11 → y ≠ cl_r σ 19 11 + 1 → cl_i τ y = cl_i σ y := by
  have h' := h
  obtain ⟨f0, d, ⟨hN, hok⟩, ⟨p1, p2, p3⟩, im, rw_, tp, ⟨c1, c2, c3⟩, tr⟩ := h
  obtain ⟨⟨u0, u1, u2, u3, u4⟩, u5, u6, u7⟩ := tr
  obtain ⟨t, ht⟩ : ∃ t, t = cl_r σ 19 11 := ⟨_, rfl⟩
  rw [← ht] at u0 u1 u2 u3 u4 u6 u7 ⊢
  unfold cl_X5_begins
  rw [pb_gdD _ u1, u6, u2]
  by_cases h16 : pa_tn S < 16
  · have hle : ¬ (16 : Int32) ≤ nI (pa_tn S) := fun h => absurd ((pb_le (a := 16) (by omega) (by omega)).mp h) (by omega)
    obtain ⟨τ, hτ⟩ : ∃ τ, τ = cl_wi (cl_wi σ t 1 (nI (pa_tn S + 1))) (t + 1) (pa_tn S) b := ⟨_, rfl⟩
    have hnt : t + 1 ≠ t := by omega
    have i1 : cl_i τ (t + 1) = upd (cl_i σ (t + 1)) (pa_tn S) b := by
      rw [hτ, pc_wi, pc_i_si_s, pc_wi, pc_i_si_n _ _ _ _ hnt]
    have i0 : cl_i τ t = upd (cl_i σ t) 1 (nI (pa_tn S + 1)) := by
      rw [hτ, pc_wi, pc_i_si_n _ _ _ _ (Ne.symm hnt), pc_wi, pc_i_si_s]
    have hfr : pc_fr σ τ (fun y => y = t ∨ y = t + 1) pc_0 := by
      rw [hτ]
      exact pc_fr_tr (pc_fr_si _ t _ (Or.inl rfl)) (pc_fr_si _ (t + 1) _ (Or.inr rfl))
    have hpt : pd_lo σ 26 = t := by rw [pd_t, ht]
    refine ⟨τ, ?_, ?_, by rw [hτ]; rfl, by rw [hτ]; rfl, fun y y1 y2 => by rw [hτ, pc_wi, pc_i_si_n _ _ _ _ y2, pc_wi, pc_i_si_n _ _ _ _ y1]⟩
    · rw [if_neg hle, pb_gdD _ (by omega), pb_let, ← nI_succ, pb_gdD _ (by exact u3)]
      have l1 : cl_l (cl_wi σ t 1 (nI (pa_tn S + 1))) (t + 1) = 16 := u4
      rw [l1, pn_gdi _ h16 (by omega), pb_let, nI_clamp (by omega), hτ]
    · have key := pm_rg hfr (i := 26) (by omega) (by rw [hpt]; exact u0) (fun y hy hz => ?_) (fun y hy hz => hz.elim) h'
      · obtain ⟨f', d', e, n30, pa, img, rows, ⟨i19, i29, r53, r54, r19, r21⟩, tr'⟩ := key
        unfold sd_b
        rw [if_pos h16]
        refine ⟨f', d', ⟨n30, hok⟩, ⟨fun i hi => ?_, p2, fun i hi => ?_⟩, fun i hi => ?_, fun i hi => ?_, ⟨tp.1, by rw [i19]; exact tp.2.1, fun j hj => by rw [i29]; exact tp.2.2 j hj⟩, ⟨by rw [i19]; exact c1, by rw [i19]; exact c2, by rw [i19]; exact c3⟩, ?_⟩
        · rw [r53]
          rcases p1 i hi with q | q
          · exact Or.inl q
          · exact Or.inr ((pa i hi (by omega) (by have := q.1.1; omega)).1 q)
        · rw [r53]
          obtain ⟨v1, v2, v3⟩ := p3 i hi
          have hp2 : pa_acts S ≤ 16 := p2
          have hj2 : i < pa_acts S := hi
          exact ⟨v1, (pa i (by omega) (by omega) v1).2 _ v3 v2, v3⟩
        · rw [r54]
          rcases im i hi with q | ⟨N', v1, v2, v3, v4⟩
          · exact Or.inl q
          · exact Or.inr ⟨N', v1, v2, img i hi (by omega) v2 N' v4 v3, v4⟩
        · rw [r21 i hi]
          exact rows i hi (by omega)
        · show pr_tr τ (pa_tn S + 1) (upd (pa_tr S) (pa_tn S) b)
          unfold pr_tr
          have kτ : ∀ y, cl_k τ y = cl_k σ y := by intro y; rw [hτ]; rfl
          have lτ : ∀ y, cl_l τ y = cl_l σ y := by intro y; rw [hτ]; rfl
          have rτ : ∀ y, cl_r τ y = cl_r σ y := by intro y; rw [hτ]; rfl
          rw [rτ, ← ht, rτ, kτ, kτ, lτ, i0, i1]
          refine ⟨⟨u0, u1, u2, u3, u4⟩, by omega, ?_, fun i hi => ?_⟩
          · rfl
          · unfold upd
            split
            · rfl
            · exact u7 i (by omega)
      · right
        have hy' : y = t ∨ y = t + 1 := hz
        refine ⟨⟨by rw [hpt]; omega, by rw [hpt]; unfold pd_sz; rw [if_neg (by omega), if_neg (by omega)]; omega⟩, ?_⟩
        unfold pc_pw
        rcases hy' with e | e
        · rw [e, u1]; omega
        · rw [e, u3]; omega
  · have hle : (16 : Int32) ≤ nI (pa_tn S) := (pb_le (a := 16) (by omega) (by omega)).mpr (by omega)
    refine ⟨σ, by rw [if_pos hle], ?_, rfl, rfl, fun _ _ _ => rfl⟩
    unfold sd_b
    rw [if_neg h16]
    exact h'
theorem sd_mb (hm : pm_R μ S) (h16 : pa_tn S ≤ 16) (b : Int32) : ∃ ν, mo_begins μ b = some ν ∧ pm_R ν (sd_b S b) := by
  obtain ⟨m1, m2, m3, m4, m5, m6, ⟨m7, m8⟩⟩ := hm
  unfold mo_begins
  rw [m7]
  by_cases hlt : pa_tn S < 16
  · have hle : ¬ (16 : Int32) ≤ nI (pa_tn S) := fun h => absurd ((pb_le (a := 16) (by omega) (by omega)).mp h) (by omega)
    rw [if_neg hle, pn_gdi _ hlt (by omega), nI_clamp (by omega)]
    have e11 : (mo_A μ 16 (pa_tn S) b).1 11 = nI (pa_tn S) := m7
    rw [e11, ← nI_succ]
    refine ⟨_, rfl, ?_⟩
    unfold sd_b
    rw [if_pos hlt]
    have a : ∀ k, k ≠ 16 → (mo_I (mo_A μ 16 (pa_tn S) b) 11 (nI (pa_tn S + 1))).2 k = μ.2 k := by
      intro k hk
      show va_up μ.2 16 (upd (μ.2 16) (pa_tn S) b) k = _
      rw [va_up_ne _ _ hk]
    have a16 : (mo_I (mo_A μ 16 (pa_tn S) b) 11 (nI (pa_tn S + 1))).2 16 = upd (μ.2 16) (pa_tn S) b := by
      show va_up μ.2 16 (upd (μ.2 16) (pa_tn S) b) 16 = _
      rw [va_up_self]
    unfold pm_R pm_img pm_row
    rw [a 0 (by omega), a 1 (by omega), a 2 (by omega), a 4 (by omega), a 5 (by omega), a 8 (by omega), a 9 (by omega), a 10 (by omega), a16]
    refine ⟨m1, m2, m3, m4, m5, m6, rfl, fun i hi => ?_⟩
    have hi2 : i < pa_tn S + 1 := hi
    show upd (μ.2 16) (pa_tn S) b i = upd (pa_tr S) (pa_tn S) b i
    unfold upd
    split
    · rfl
    · exact m8 i (by omega)
  · have hle : (16 : Int32) ≤ nI (pa_tn S) := (pb_le (a := 16) (by omega) (by omega)).mpr (by omega)
    rw [if_pos hle]
    refine ⟨μ, rfl, ?_⟩
    unfold sd_b
    rw [if_neg hlt]
    exact ⟨m1, m2, m3, m4, m5, m6, ⟨m7, m8⟩⟩
end SD
