/-! fits -/
section SC
variable {σ : cl_S} {μ : mo_S} {S : pa_S}
theorem sc_for (h : pc_R σ S) (hm : pm_R μ S) (v x r n w : Int32) : ∃ B, cl_X0_isFor 19 σ x w = some B ∧ mo_fits μ v x r n w = mo_fits_J38 μ v x r n w B ∧ (B = true → w = 0 ∨ (w = 1 ∧ pq_in x 0 (nI (pn_C (pa_net S)) - 1) = true) ∨ (w = 2 ∧ pq_in x 0 (nI (pn_P (pa_net S)) - 1) = true)) := by
  unfold cl_X0_isFor mo_fits mo_fits_J19
  by_cases h0 : w = 0
  · rw [if_pos h0, if_pos h0]
    exact ⟨true, rfl, rfl, fun _ => Or.inl h0⟩
  rw [if_neg h0, if_neg h0]
  by_cases h1 : w = 1
  · have h2 : ¬ w = 2 := by rw [h1]; decide
    rw [if_pos h1, if_pos h1, if_neg h2, pb_gdD _ (pt_cx h).1, pq_cC h, pq_mC hm]
    simp only [pb_b1]
    refine ⟨_, rfl, ?_, fun hB => Or.inr (Or.inl ⟨h1, hB⟩)⟩
    cases pq_in x 0 (nI (pn_C (pa_net S)) - 1) <;> rfl
  rw [if_neg h1, if_neg h1]
  by_cases h2 : w = 2
  · rw [if_pos h2, if_pos h2, pb_gdD _ (pt_cx h).1, pq_cP h, pq_mP hm]
    simp only [pb_b1]
    refine ⟨_, rfl, ?_, fun hB => Or.inr (Or.inr ⟨h2, hB⟩)⟩
    cases pq_in x 0 (nI (pn_P (pa_net S)) - 1) <;> rfl
  rw [if_neg h2, if_neg h2]
  exact ⟨false, rfl, rfl, fun hB => by cases hB⟩
theorem sc_J (h : pc_R σ S) (v : Int32) : cl_X0_fits_J113 19 σ v = some (v, cl_wi σ 19 12 0) := by
  unfold cl_X0_fits_J113
  rw [pb_gdD _ (pt_cx h).1, rs_cw h]
  rfl
theorem sc_fits (h : pc_R σ S) (hm : pm_R μ S) (v x r n w : Int32) : pq_any (cl_X0_fits 19 σ v x r n w) (mo_fits μ v x r n w) := by
  have hN := h.2.2.1.2
  have hP9 := hN.1
  have hC10 := hN.2.1
  obtain ⟨x0, x3, x4, k0, v3⟩ := sb_37 h
  have v0 := h.2.2.1.1.2.1.1
  have e0 : (0 : Int32).toNatClampNeg = 0 := by decide
  have e3 : (3 : Int32).toNatClampNeg = 3 := by decide
  have bad : pq_any (some ((-1000001 : Int32), σ)) (some ((-1000001 : Int32), μ)) := ⟨S, _, _, _, rfl, rfl, h, hm⟩
  obtain ⟨B, f1, f2, f3⟩ := sc_for h hm v x r n w
  have i1 : cl_X0_isIn n.toInt64 (1 : Int64) (nI (pn_P (pa_net S))).toInt64 = some (pq_in n (nI 1) (nI (pn_P (pa_net S)))) := pq_c n 1 _
  have j1 : mo_in n (1 : Int32) (nI (pn_P (pa_net S))) = some (pq_in n (nI 1) (nI (pn_P (pa_net S)))) := pq_m n 1 _
  unfold cl_X0_fits
  rw [f2]
  unfold mo_fits_J38
  rw [pb_gdD _ x0, pq_cP h, pq_mP hm, f1, rt_cR, rt_mR, x3, pb_gdD _ (by decide), pb_gdD _ k0, v0, i1, e0, hm.1.1, j1]
  simp only [pb_b1]
  cases hv : pq_in v 0 (nI (pn_P (pa_net S)) - 1) with
  | false => exact bad
  | true =>
    simp only [pb_ibT]
    cases hB : B with
    | false => exact bad
    | true =>
      simp only [pb_ibT]
      cases hr : pq_in r 0 (nI 7) with
      | false => exact bad
      | true =>
        simp only [pb_ibT]
        cases hn : pq_in n (nI 1) (nI (pn_P (pa_net S))) with
        | false => exact bad
        | true =>
          simp only [pb_ibT]
          obtain ⟨s, hs, rfl⟩ := (pq_lt (by omega)).mp hv
          obtain ⟨j, hj7, rfl⟩ := (pq_le (by omega)).mp hr
          obtain ⟨k, hk1, hk2, rfl⟩ := px_of (by omega) (by omega) hn
          have hj : j < 8 := by omega
          have i8 : dx_inb (nI j) 8 = true := by rw [pb_inb (by omega), decide_eq_true (by omega)]
          have cj : (nI j).toNatClampNeg = j := nI_clamp (by omega)
          rw [rt_miss hm h hj, pb_b1]
          rcases sa_items h hj (n := k) (by omega) with ⟨q1, q2⟩ | ⟨lane, len, f, q1, ql, q2⟩
          · have hz : cl_r σ (21 + j) 0 = 0 := by
              rcases h.2.2.2.2.2.1 j hj with ⟨-, g⟩ | ⟨_, _, _, g, -⟩
              · exact g
              · rw [q1] at g; cases g
            rw [q2, rt_bxr, if_pos rfl, pb_gdD _ x0, decide_eq_true hz, pb_ibT]
            exact rs_found h hm 1
          · have hz : ¬ cl_r σ (21 + j) 0 = 0 := by
              rcases h.2.2.2.2.2.1 j hj with ⟨g, -⟩ | ⟨_, _, _, g, -, -, g4, -⟩
              · rw [q1] at g; cases g
              · exact g4
            have m1 : μ.2 1 j = nI len := by
              rcases hm.2.2.2.1 j hj with ⟨g, -⟩ | ⟨_, _, _, g, u1, u2, u3⟩
              · rw [q1] at g; cases g
              rw [q1] at g
              cases g
              exact u2
            have hpart : mo_isPart μ (nI j) (0 : Int32) (nI k) = some (decide (k ≤ len)) := by
              unfold mo_isPart
              have a1 : ¬ nI len < (0 : Int32) := pb_neg (by omega)
              rw [if_neg (by decide), if_neg (pb_neg (by omega)), i8, pb_gdT, pb_gdT, cj, m1, if_neg a1, Int32.sub_zero]
              by_cases hkl : k ≤ len
              · rw [if_neg (fun h => absurd ((pb_lt (by omega) (by omega)).mp h) (by omega)), decide_eq_true hkl]
              · rw [if_pos ((pb_lt (by omega) (by omega)).mpr (by omega)), decide_eq_false hkl]
            rw [decide_eq_false hz, pb_ibF, hpart, pb_b1]
            rcases q2 with ⟨q2, q3⟩ | ⟨q2, τ, o, q3, q4, q5⟩
            · rw [q3, rt_bxr, if_neg (by decide), if_pos rfl, pb_gdD _ x0, decide_eq_false (by omega), pb_ibF]
              exact rs_found h hm 2
            · have ho : ¬ o = 0 := by have := q5.1.1; omega
              obtain ⟨ν, n1, n2, n3⟩ := ry_mnow hm hN
              rw [q3, rt_bx, pb_gdD _ ho, pb_gdD _ (pt_cx q4).1, decide_eq_true q2, pb_ibT, n1, pb_b1]
              have main : ∀ {X : Nat → pn_N} {lo hi pl : Nat} {o1 : Option (Int32 × cl_S)}, (∃ τ', o1 = some (pb_fold (sb_g X s k f lo) 0 (hi + 1 - lo), τ') ∧ pc_R τ' S) → (∀ v, lo ≤ v → v ≤ hi → pn_ok (X v) ∧ s < pn_P (X v) ∧ ∀ w' : Nat → Int32, w' pl = nI v → (∀ i, i < 52 → i ≠ pl → w' i = ν.2 7 i) → pn_m w' (X v)) → pl < 52 → lo ≤ hi + 1 → hi ≤ 31 → pq_any (dx_b2 o1 fun r19 σ19 => cl_X0_fits_J113 19 σ19 r19) (dx_lp (fun x : Int32 × Int32 × mo_S => mo_fits_L215 x.2.2 (nI s) (nI j) (nI k) (nI pl) (nI hi) x.1 x.2.1) dx_fu ((0 : Int32), nI lo, ν)) := by
                intro X lo hi pl o1 ⟨τ', g1, g2⟩ hX hpl hlo hhi
                obtain ⟨ν', g3, g4⟩ := sb_mround n2 hX (fun _ _ _ => rfl) hj (by omega) hpl hlo hhi q1 q2
                rw [g1, pb_b2, sc_J g2, g3]
                exact ⟨pa_sst S 0, _, _, _, rfl, rfl, rs_st g2 0, g4⟩
              rcases f3 hB with hw | ⟨hw, hx⟩ | ⟨hw, hx⟩
              · rw [hw, if_pos rfl, if_pos rfl]
                unfold mo_fits_J153 mo_fits_J197
                obtain ⟨hi, hhi⟩ : ∃ hi, hi = if pn_hi (pa_net S) < 9 then pn_hi (pa_net S) else 9 := ⟨_, rfl⟩
                have hb := hN.2.2.1 (by omega)
                have hh9 : hi ≤ 9 ∧ hi ≤ pn_hi (pa_net S) := by rw [hhi]; split <;> omega
                have hm3 : ν.2 5 3 = nI (pn_hi (pa_net S)) := n2.1.2.2.2.1
                have e1 : nI 1 = (1 : Int32) := rfl
                have e2 : nI 2 = (2 : Int32) := rfl
                have fin := main (sb_lows q4 hs (by omega) q5 hhi) (pl := 2) (fun v h1 h2 => ⟨sb_Lok hN ⟨by omega, by omega, by omega⟩, hs, fun w' a1 a2 => ?_⟩) (by omega) (by omega) (by omega)
                · have n01 : ¬ (0 : Int32) = (1 : Int32) := by decide
                  rw [if_pos rfl, e3, hm3, if_neg n01, if_neg n01]
                  by_cases hlt : pn_hi (pa_net S) < 9
                  · have h' : ¬ (9 : Int32) ≤ nI (pn_hi (pa_net S)) := fun h => absurd ((pb_le (a := 9) (by omega) (by omega)).mp h) (by omega)
                    rw [if_neg h']
                    rw [if_pos hlt] at hhi
                    rw [← hhi]
                    exact fin
                  · have h' : (9 : Int32) ≤ nI (pn_hi (pa_net S)) := (pb_le (a := 9) (by omega) (by omega)).mpr (by omega)
                    rw [if_pos h']
                    rw [if_neg hlt] at hhi
                    rw [hhi] at fin
                    exact fin
                · obtain ⟨b0, b1, b2, b3, b4, b5⟩ := n3
                  refine ⟨(a2 0 (by omega) (by omega)).trans b0, (a2 1 (by omega) (by omega)).trans b1, a1, (a2 3 (by omega) (by omega)).trans b3, fun p hp => ?_, fun c hc => ?_⟩
                  · have hp2 : p < pn_P (pa_net S) := hp
                    exact ⟨(a2 _ (by omega) (by omega)).trans (b4 p hp).1, (a2 _ (by omega) (by omega)).trans (b4 p hp).2⟩
                  · have hc2 : c < pn_C (pa_net S) := hc
                    exact ⟨(a2 _ (by omega) (by omega)).trans (b5 c hc).1, (a2 _ (by omega) (by omega)).trans (b5 c hc).2.1, (a2 _ (by omega) (by omega)).trans (b5 c hc).2.2⟩
              · obtain ⟨c, hc, rfl⟩ := (pq_lt (by omega)).mp hx
                rw [hw, if_neg (by decide), if_pos rfl, if_neg (by decide), if_pos rfl]
                unfold mo_fits_J153 mo_fits_J197
                have fin := main (sb_days q4 hs hc (by omega) q5) (pl := 24 + 3 * c) (fun v h1 h2 => ⟨ry_Dok hN h2, hs, fun w' a1 a2 => ?_⟩) (by omega) (by omega) (by omega)
                · rw [if_neg (by decide), if_pos rfl, if_pos rfl, pn_i22, pn_i24, pb_gdD _ (pt_cx q4).1]
                  exact fin
                · obtain ⟨b0, b1, b2, b3, b4, b5⟩ := n3
                  refine ⟨(a2 0 (by omega) (by omega)).trans b0, (a2 1 (by omega) (by omega)).trans b1, (a2 2 (by omega) (by omega)).trans b2, (a2 3 (by omega) (by omega)).trans b3, fun p hp => ?_, fun c' hc' => ?_⟩
                  · have hp2 : p < pn_P (pa_net S) := hp
                    exact ⟨(a2 _ (by omega) (by omega)).trans (b4 p hp).1, (a2 _ (by omega) (by omega)).trans (b4 p hp).2⟩
                  · have hc2 : c' < pn_C (pa_net S) := hc'
                    refine ⟨(a2 _ (by omega) (by omega)).trans (b5 c' hc').1, (a2 _ (by omega) (by omega)).trans (b5 c' hc').2.1, ?_⟩
                    show _ = nI (va_up (pn_d (pa_net S)) c v c')
                    unfold va_up
                    by_cases hcc : c' = c
                    · rw [if_pos hcc, hcc]
                      exact a1
                    · rw [if_neg hcc]
                      exact (a2 _ (by omega) (by omega)).trans (b5 c' hc').2.2
              · obtain ⟨p, hp, rfl⟩ := (pq_lt (by omega)).mp hx
                rw [hw, if_neg (by decide), if_neg (by decide), if_neg (by decide), if_neg (by decide)]
                unfold mo_fits_J153 mo_fits_J197
                have fin := main (sb_kinds q4 hs hp (by omega) q5) (pl := 4 + 2 * p) (fun v h1 h2 => ⟨sb_Kok hN ⟨by omega, by omega⟩, hs, fun w' a1 a2 => ?_⟩) (by omega) (by omega) (by omega)
                · rw [if_neg (by decide), if_neg (by decide), if_neg (by decide), pn_i4, pb_gdD _ (pt_cx q4).1]
                  exact fin
                · obtain ⟨b0, b1, b2, b3, b4, b5⟩ := n3
                  refine ⟨(a2 0 (by omega) (by omega)).trans b0, (a2 1 (by omega) (by omega)).trans b1, (a2 2 (by omega) (by omega)).trans b2, (a2 3 (by omega) (by omega)).trans b3, fun p' hp' => ?_, fun c' hc' => ?_⟩
                  · have hp2 : p' < pn_P (pa_net S) := hp'
                    refine ⟨?_, (a2 _ (by omega) (by omega)).trans (b4 p' hp').2⟩
                    show _ = nI (va_up (pn_kd (pa_net S)) p v p')
                    unfold va_up
                    by_cases hcc : p' = p
                    · rw [if_pos hcc, hcc]
                      exact a1
                    · rw [if_neg hcc]
                      exact (a2 _ (by omega) (by omega)).trans (b4 p' hp').1
                  · have hc2 : c' < pn_C (pa_net S) := hc'
                    exact ⟨(a2 _ (by omega) (by omega)).trans (b5 c' hc').1, (a2 _ (by omega) (by omega)).trans (b5 c' hc').2.1, (a2 _ (by omega) (by omega)).trans (b5 c' hc').2.2⟩
end SC
