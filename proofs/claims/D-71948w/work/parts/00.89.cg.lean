/-! chain -/
section CG
variable {σ : cl_S} {μ : mo_S} {S : pa_S}
theorem cg_k {k : Int32} (h : (-1 : Int32) ≤ k) (h2 : ¬ k = (-1 : Int32)) : ¬ k < 0 := by
  intro h3
  apply h2
  apply Int32.toInt_inj.mp
  rw [Int32.le_iff_toInt_le] at h
  rw [Int32.lt_iff_toInt_lt, Int32.toInt_zero] at h3
  have e : (-1 : Int32).toInt = -1 := by decide
  omega
/-- both sides find the same chain -/
theorem cg_both (h : pc_R σ S) (hm : pm_R μ S) {s D p : Nat} (hs : s < pn_P (pa_net S)) (hp : p < pn_P (pa_net S)) (hD : D ≤ 30) : ∃ b σ' μ', cl_X4_find 46 30 σ (nI s) (nI D) (nI p) = some (b, σ') ∧ mo_isLinked μ (nI s) (nI D) (nI p) = some (b, μ') ∧ pc_R σ' S ∧ pm_R μ' S ∧ (b = true → ∃ n K L, n ≤ 10 ∧ ca_ok (pa_net S) L s D n K ∧ cl_i σ' 46 7 = nI n ∧ μ'.1 9 = nI n ∧ ∀ t, t < n → K t < 20 ∧ cl_i σ' 52 t = nI (K t / 2) ∧ μ'.2 14 t = nI (K t)) := by
  have hN := h.2.2.1.2
  have hC := hN.2.1
  obtain ⟨L, z, hz, hT, z1, z2, z3⟩ := cn_linked hm.1 hN hs hp hD
  obtain ⟨y, hy, y1, y3⟩ := cf_find h rfl hT hs hp hD
  obtain ⟨zb, μ'⟩ := z
  obtain ⟨yb, σ'⟩ := y
  have hM : pm_R μ' S := pm_R_fr (μ := μ) (fun k hk => z1 k (by unfold pm_i at hk; omega)) (fun k hk => z2 k (by unfold pm_a at hk; omega) (by unfold pm_a at hk; omega)) hm
  have hR : pc_R σ' S := cc_R h y1
  rcases z3 with ⟨e1, e2⟩ | ⟨e1, e2, K, k1, k2, k3⟩
  · rcases y3 with ⟨f1, f2⟩ | ⟨f1, f2, -⟩
    · replace e1 : zb = false := e1
      replace f1 : yb = false := f1
      subst e1 f1
      exact ⟨false, σ', μ', hy, hz, hR, hM, fun hb => by cases hb⟩
    · exact absurd f2 e2
  · rcases y3 with ⟨f1, f2⟩ | ⟨f1, f2, K', k1', k2', k3'⟩
    · exact absurd e2 f2
    · replace e1 : zb = true := e1
      replace f1 : yb = true := f1
      subst e1 f1
      refine ⟨true, σ', μ', hy, hz, hR, hM, fun _ => ⟨_, K, L, ca_10 hN hT (Nat.le_refl D) e2, k1, k2', k2, fun t ht => ⟨?_, ?_, k3 t ht⟩⟩⟩
      · have := (k1 t ht).1
        omega
      · rw [ca_u k1 k1' t ht]
        exact k3' t ht
theorem cg_chain (h : pc_R σ S) (hm : pm_R μ S) (v d w k : Int32) : pq_res (cl_X0_chain 19 σ v d w k) (mo_chain μ v d w k) S := by
  have hN := h.2.2.1.2
  have hP9 := hN.1
  have bad : pq_res (some ((-1000001 : Int32), σ)) (some ((-1000001 : Int32), μ)) S := ⟨_, _, _, rfl, rfl, h, hm⟩
  obtain ⟨x0, x1, x2, x3, x4, x5, x6, x7, x8⟩ := h.1.2.1
  obtain ⟨c0, -⟩ := h.1.2.2.2.1
  unfold cl_X0_chain mo_chain
  rw [pb_gdD _ x0, pt_cA h, pt_mF hm, pq_mP hm]
  simp only [pb_b1]
  cases hv : pq_in v 0 (nI (pn_P (pa_net S)) - 1) with
  | false => exact bad
  | true =>
    cases hd : pq_in d 0 (nI 30) with
    | false => exact bad
    | true =>
      cases hw : pq_in w 0 (nI (pn_P (pa_net S)) - 1) with
      | false => exact bad
      | true =>
        simp only [Bool.true_and, pb_ibT]
        obtain ⟨s, hs, rfl⟩ := (pq_lt (by omega)).mp hv
        obtain ⟨D, hD, rfl⟩ := (pq_le (by omega)).mp hd
        obtain ⟨p, hp, rfl⟩ := (pq_lt (by omega)).mp hw
        by_cases hk : (-1 : Int32) ≤ k
        · rw [if_pos hk, if_pos hk, x6, x3, pb_gdD _ (by decide), pb_gdD _ (by decide), pb_gdD _ c0]
          obtain ⟨b, σ', μ', hy, hz, hR, hM, hb⟩ := cg_both h hm hs hp hD
          rw [hy, hz, pb_b2, pb_b2]
          cases b with
          | false => exact ⟨_, _, _, rfl, rfl, hR, hM⟩
          | true =>
            obtain ⟨n, K, L, hn, -, y7, z9, ht⟩ := hb rfl
            obtain ⟨u0, -, -, -, -, -, u6, -⟩ := hR.1.2.1
            obtain ⟨v0, ⟨-, -, -, -, -, r6⟩, ⟨-, -, -, -, -, q6⟩, ⟨-, -, -, -, -, l6⟩⟩ := hR.1.2.2.2.1
            rw [pb_ibT, pb_ibT, pb_gdD _ u0, u6, pb_gdD _ (by decide), pb_gdD _ v0, y7, z9]
            by_cases h1 : k = (-1 : Int32)
            · rw [if_pos h1, if_pos h1]
              exact ⟨_, _, _, rfl, rfl, hR, hM⟩
            · rw [if_neg h1, if_neg h1, pb_gdD _ u0, pb_gdD _ (by decide), pb_gdD _ v0]
              obtain ⟨j, hj, rfl⟩ := pb_of (cg_k hk h1)
              by_cases hle : n ≤ j
              · rw [if_pos ((pb_le (by omega) hj).mpr hle), if_pos ((pb_le (by omega) hj).mpr hle)]
                exact ⟨_, _, _, rfl, rfl, hR, hM⟩
              · have hnle : ¬ nI n ≤ nI j := fun h => hle ((pb_le (by omega) hj).mp h)
                obtain ⟨a1, a2, a3⟩ := ht j (by omega)
                have h20 : nI (K j) / (2 : Int32) = nI (K j / 2) ∧ nI (K j) - nI (K j) / (2 : Int32) * (2 : Int32) = nI (K j % 2) := cm_20 ⟨K j, a1⟩
                rw [if_neg hnle, if_neg hnle, pb_gdD _ (by decide), r6, pb_gdD _ (by decide), pb_gdD _ q6, l6, pn_gdi _ (by omega) hj, pn_gdi _ (by omega) hj, nI_clamp hj, a2, a3, h20.1]
                exact ⟨_, _, _, rfl, rfl, hR, hM⟩
        · rw [if_neg hk, if_neg hk]
          exact bad
end CG
