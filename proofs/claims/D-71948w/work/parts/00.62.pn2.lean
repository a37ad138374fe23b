/-! keep -/
/-- one of what lies apart is new -/
theorem pd_new {σ σ' : cl_S} (d : pd σ) {i : Nat} (hi : i < 27) (hn : 54 ≤ cl_n σ) (h1 : ∀ j, j < 27 → j ≠ i → pd_lo σ' j = pd_lo σ j) (h2 : pd_lo σ' i = cl_n σ + 1) (h3 : cl_n σ + 1 + pd_sz i ≤ cl_n σ') : pd σ' := by
  refine ⟨fun j hj => ?_, fun j k hj hk hjk => ?_⟩
  · by_cases hji : j = i
    · rw [hji, h2]; exact Or.inr ⟨by omega, h3⟩
    · rw [h1 j hj hji]
      rcases d.1 j hj with q | q
      · exact Or.inl q
      · exact Or.inr ⟨q.1, by omega⟩
  · by_cases hji : j = i
    · have hki : k ≠ i := by omega
      rw [hji, h2, h1 k hk hki]
      rcases d.1 k hk with q | q
      · exact Or.inr (Or.inl q)
      · exact Or.inr (Or.inr (Or.inr (by omega)))
    · rw [h1 j hj hji]
      by_cases hki : k = i
      · rw [hki, h2]
        rcases d.1 j hj with q | q
        · exact Or.inl q
        · exact Or.inr (Or.inr (Or.inl (by omega)))
      · rw [h1 k hk hki]
        exact d.2 j k hj hk hjk
/-- one of what lies apart is null -/
theorem pd_nul {σ σ' : cl_S} (d : pd σ) {i : Nat} (h1 : ∀ j, j < 27 → j ≠ i → pd_lo σ' j = pd_lo σ j) (h2 : pd_lo σ' i = 0) (h3 : cl_n σ ≤ cl_n σ') : pd σ' := by
  refine ⟨fun j hj => ?_, fun j k hj hk hjk => ?_⟩
  · by_cases hji : j = i
    · rw [hji, h2]; exact Or.inl rfl
    · rw [h1 j hj hji]
      rcases d.1 j hj with q | q
      · exact Or.inl q
      · exact Or.inr ⟨q.1, by omega⟩
  · by_cases hji : j = i
    · rw [hji, h2]; exact Or.inl rfl
    · by_cases hki : k = i
      · rw [hki, h2]; exact Or.inr (Or.inl rfl)
      · rw [h1 j hj hji, h1 k hk hki]
        exact d.2 j k hj hk hjk
section PN2
variable {σ : cl_S} {S : pa_S}
theorem pj_J90 (hR : pc_R σ S) {a : Nat} (ha : a < 16) (hn : a = pa_acts S) (h0 : cl_r σ 53 a ≠ 0) : ∃ σ', cl_X0_keep_J90 19 σ = some σ' ∧ pc_R σ' ((pa_net S, va_up (pa_past S) a (pa_net S), a + 1), S.2) := by
  have hR' := hR
  obtain ⟨⟨hn54, ⟨x0, x1, x2, x3, x4, x5, x6, x7, x8⟩, -, -, ⟨-, ⟨a3, a4⟩, -⟩, -⟩, d, ⟨hN, hok⟩, ⟨p1, -⟩, -, -, -, ⟨c1, -⟩, -⟩ := hR
  have hs : pc_sh σ (cl_r σ 53 a) := (p1 a ha).resolve_left h0
  have hp := pd_p (σ := σ) ha
  obtain ⟨m1, m2⟩ := pm_lo d (by omega : a < 27) (by rw [hp]; exact h0)
  have hsz : pd_sz a = 6 := by unfold pd_sz; rw [if_pos (by omega)]
  rw [hsz, hp] at m2
  rw [hp] at m1
  obtain ⟨τ, b1, b2, b3, b4⟩ := pk_become hs hN hok (by omega)
  have i19 : cl_i τ 19 = cl_i σ 19 := (b2.2 19 (by omega)).2.2.1 (by unfold pk_Z; omega)
  have k19 : cl_k τ 19 = 0 := by rw [(b2.2 19 (by omega)).1, x0]
  refine ⟨_, ?_, pm_past b2 ha h0 (fun y hy hz => ?_) (fun y hy hz => ?_) hR' hn b3 hok⟩
  · unfold cl_X0_keep_J90
    rw [pb_gdD _ x0, x7, pb_gdD _ (by decide), pb_gdD _ a3, c1, ← hn, a4, pn_gdi _ (by omega) (by omega), nI_clamp (by omega), pb_gdD _ h0, x3, pb_gdD _ (by decide), pb_gdD _ hs.2.1, b1, pb_b2, pb_gdD _ h0, pb_gdD _ k19, pb_let, i19, c1, ← hn, ← nI_succ, pc_wi, i19]
  · right
    refine ⟨?_, ?_⟩
    · unfold pd_in
      rw [hsz, hp]
      unfold pk_Z at hz
      omega
    · unfold pk_Z at hz
      obtain ⟨-, k0, -, ⟨k2, -⟩, ⟨k3, -⟩, ⟨k4, -⟩, ⟨k5, -⟩, -⟩ := hs
      unfold pc_pw
      rcases hz with rfl | hz
      · rw [k0]; omega
      · have : y = cl_r σ 53 a + 2 ∨ y = cl_r σ 53 a + 3 ∨ y = cl_r σ 53 a + 4 ∨ y = cl_r σ 53 a + 5 := by omega
        rcases this with rfl | rfl | rfl | rfl
        · rw [k2]; omega
        · rw [k3]; omega
        · rw [k4]; omega
        · rw [k5]; omega
  · right
    unfold pd_in
    rw [hsz, hp]
    unfold pk_Y at hz
    omega
/-- a new net takes a place of an array of nets (53: the past; 54: images) -/
theorem pj_new (hR : pc_R σ S) : ∃ σ', cl_X2_init (cl_n σ + 1) (cl_nw σ 2 0) = some σ' ∧ pc_fr σ σ' pc_0 pc_0 ∧ cl_n σ' = cl_n σ + 7 ∧ pc_sh σ' (cl_n σ + 1) ∧ pc_R σ' S := by
  have hK : cl_K ≤ cl_n σ := by have := hR.1.1; unfold cl_K; omega
  obtain ⟨τ, b1, b2, b3, b4, -⟩ := pl_init σ hK
  exact ⟨τ, b1, b2, b3, b4, pc_R_sc b2 (fun _ _ h => h.elim) (fun _ _ h => h.elim) hR⟩
theorem pj_J62 (hR : pc_R σ S) {a : Nat} (ha : a < 16) (hn : a = pa_acts S) : ∃ σ', cl_X0_keep_J62 19 σ = some σ' ∧ pc_R σ' ((pa_net S, va_up (pa_past S) a (pa_net S), a + 1), S.2) := by
  have hR' := hR
  obtain ⟨f, d, ⟨hN, hok⟩, ⟨p1, p2, p3⟩, im, rw_, tp, ⟨c1, c2, c3⟩, tr⟩ := hR
  have f0 := f
  obtain ⟨hn54, ⟨x0, x1, x2, x3, x4, x5, x6, x7, x8⟩, -, -, ⟨-, ⟨a3, a4⟩, -⟩, -⟩ := f
  unfold cl_X0_keep_J62
  rw [pb_gdD _ x0, x7, pb_gdD _ (by decide), pb_gdD _ a3, c1, ← hn, a4, pn_gdi _ (by omega) (by omega), nI_clamp (by omega)]
  by_cases h0 : cl_r σ 53 a = 0
  · rw [if_pos h0, pb_gdD _ (by decide)]
    obtain ⟨τ, b1, b2, b3, b4, b5⟩ := pj_new hR'
    have k53 : cl_k τ 53 = 27 := by rw [(b2.2 53 (by omega)).1, a3]
    have l53 : cl_l τ 53 = 16 := by rw [(b2.2 53 (by omega)).2.1, a4]
    have r53 : cl_r τ 53 = cl_r σ 53 := (b2.2 53 (by omega)).2.2.2 (fun h => h)
    rw [b1, pb_b1, pb_gdD _ k53, l53, pn_gdi _ (by omega) (by omega), pb_gdD _ b4.2.1, pb_let]
    obtain ⟨f', d', hN', ⟨q1, q2, q3⟩, im', rw', tp', sc', tr'⟩ := b5
    have hR2 : pc_R (cl_wr τ 53 a (cl_n σ + 1)) S := by
      have h := pc_fr_sr τ 53 (va_up (cl_r τ 53) a (cl_n σ + 1)) (Z := pc_0) (Y := fun y => y = 53) rfl
      have ap : ∀ o, 53 < o ∨ o + 6 < 53 → pc_ap τ pc_0 (fun y => y = 53) o := fun o ho => ⟨fun _ _ h => h.elim, fun y _ hy => by have : y = 53 := hy; omega⟩
      have fx : pf (cl_wr τ 53 a (cl_n σ + 1)) := pf_fr h (fun y hz => hz.elim) (fun y hy => by have : y = 53 := hy; omega) f'
      have elo : ∀ j, j < 27 → j ≠ a → pd_lo (cl_wr τ 53 a (cl_n σ + 1)) j = pd_lo σ j := by
        intro j hj hja
        have e2 := (pd_fr b2 (by omega) (fun y hy => hy.elim) d).2 j hj
        rw [← e2]
        unfold pd_lo
        rw [pc_wr]
        split
        · rw [pc_r_sr, if_pos rfl, va_up_ne _ _ hja]
        · split
          · rw [pc_r_sr, if_neg (by decide)]
          · split
            · rw [pc_r_sr, if_neg (by omega)]
            · rw [pc_r_sr, if_neg (by decide)]
      have dx : pd (cl_wr τ 53 a (cl_n σ + 1)) := by
        refine pd_new d (i := a) (by omega) hn54 elo ?_ ?_
        · rw [pd_p ha, pc_wr, pc_r_sr, if_pos rfl, va_up_self]
        · show _ ≤ cl_n τ
          rw [b3]
          unfold pd_sz
          rw [if_pos (by omega)]
          omega
      refine ⟨fx, dx, ⟨pc_N_fr h (ap 30 (by omega)) hN'.2 hN'.1, hN'.2⟩, ⟨fun j hj => ?_, q2, fun j hj => ?_⟩, fun j hj => ?_, fun j hj => ?_, tp', sc', ?_⟩
      · rw [pc_wr, pc_r_sr, if_pos rfl]
        by_cases hja : j = a
        · rw [hja, va_up_self]
          exact Or.inr (pc_sh_fr h (fun hy => by have : cl_n σ + 1 = 53 := hy; omega) b4)
        · rw [va_up_ne _ _ hja]
          rcases q1 j hj with q | q
          · exact Or.inl q
          · have : 54 < cl_r τ 53 j := by
              have := (pm_lo d' (by omega : j < 27) (by rw [pd_p hj]; have := q.1.1; omega)).1
              rw [pd_p hj] at this
              exact this
            exact Or.inr (pc_sh_fr h (fun hy => by have : cl_r τ 53 j = 53 := hy; omega) q)
      · rw [pc_wr, pc_r_sr, if_pos rfl]
        have hja : j ≠ a := by omega
        rw [va_up_ne _ _ hja]
        obtain ⟨g1, g2, g3⟩ := q3 j hj
        have : 54 < cl_r τ 53 j := by
          have hj16 : j < 16 := by omega
          have := (pm_lo d' (by omega : j < 27) (by rw [pd_p hj16]; exact g1)).1
          rw [pd_p hj16] at this
          exact this
        exact ⟨g1, pc_N_fr h (ap _ (by omega)) g3 g2, g3⟩
      · rw [pc_wr, pc_r_sr, if_neg (by decide)]
        rcases im' j hj with q | ⟨N', g1, g2, g3, g4⟩
        · exact Or.inl q
        · have : 54 < cl_r τ 54 j := by
            have := (pm_lo d' (by omega : 16 + j < 27) (by rw [pd_i hj]; exact g2)).1
            rw [pd_i hj] at this
            exact this
          exact Or.inr ⟨N', g1, g2, pc_N_fr h (ap _ (by omega)) g4 g3, g4⟩
      · rw [pc_wr, pc_r_sr, if_neg (by omega)]
        exact rw' j hj
      · unfold pr_tr
        rw [pc_wr, pc_r_sr, if_neg (by decide)]
        obtain ⟨⟨u0, u1, u2, u3, u4⟩, u5, u6, u7⟩ := tr'
        have : 54 < cl_r τ 19 11 := by
          have := (pm_lo d' (by omega : 26 < 27) (by rw [pd_t]; exact u0)).1
          rw [pd_t] at this
          exact this
        refine ⟨⟨u0, u1, ?_, u3, u4⟩, u5, u6, u7⟩
        rw [pc_r_sr, if_neg (by omega)]
        exact u2
    refine pj_J90 hR2 ha hn ?_
    rw [pc_wr, pc_r_sr, if_pos rfl, va_up_self]
    omega
  · rw [if_neg h0]
    exact pj_J90 hR' ha hn h0
end PN2
