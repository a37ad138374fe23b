/-! date, ill, undo, image, restore -/
section PD
variable {σ : cl_S} {μ : mo_S} {S : pa_S}
theorem pd_bec (hm : pm_R μ S) (h : pc_R σ S) {j : Nat} (hj : j < 52) (v : Int32) : ∃ μ1, mo_becomes μ (nI j) v = some (μ.2 5 j, mo_A μ1 5 j v) ∧ pm_R μ1 (pa_kp S) ∧ pi_only μ μ1 := by
  obtain ⟨hN, hpast, ha⟩ := pe_ok h
  obtain ⟨μ1, m1, m2, m3⟩ := pi_notes hm hN hpast ha
  refine ⟨μ1, ?_, m2, m3⟩
  unfold mo_becomes
  rw [m1, pb_b1, pn_gdi _ hj (by omega), pn_gdi _ hj (by omega), nI_clamp (by omega), m3.2 5 (by decide)]
theorem pd_mset (hm : pm_R μ S) {μ1 : mo_S} (m2 : pm_R μ1 (pa_kp S)) (m3 : pi_only μ μ1) {j : Nat} {v : Int32} {N' : pn_N} (hN' : pn_m (upd (μ.2 5) j v) N') : pm_R (mo_A μ1 5 j v) ((N', pa_past (pa_kp S), pa_acts (pa_kp S)), (pa_kp S).2) := by
  refine pm_R_net (μ' := mo_A μ1 5 j v) m2 rfl (fun k hk => ?_) ?_
  · show va_up μ1.2 5 _ k = _
    rw [va_up_ne _ _ hk]
  · rw [pe_mA, m3.2 5 (by decide)]
    exact hN'
theorem pd_date (h : pc_R σ S) (hm : pm_R μ S) (v x : Int32) : pq_any (cl_X0_date 19 σ v x) (mo_date μ v x) := by
  obtain ⟨hN, hpast, ha⟩ := pe_ok h
  have hP9 := hN.1
  have hC10 := hN.2.1
  have jd : mo_in x (0 : Int32) (30 : Int32) = some (pq_in x 0 (nI 30)) := pq_m x 0 30
  have bad : pq_any (some ((-1000001 : Int32), σ)) (some ((-1000001 : Int32), μ)) := ⟨S, _, _, _, rfl, rfl, h, hm⟩
  obtain ⟨x0, x3, k0, -, -, -, -, ⟨k5, l5, r5⟩, -⟩ := pe_30 h
  unfold cl_X0_date mo_date
  rw [pb_gdD _ x0, pq_cC h, pq_cD, pq_mC hm, jd]
  simp only [pb_b1]
  cases hv : pq_in v 0 (nI (pn_C (pa_net S)) - 1) with
  | false => exact bad
  | true =>
    simp only [pb_ibT]
    cases hx : pq_in x 0 (nI 30) with
    | false => exact bad
    | true =>
      simp only [pb_ibT]
      obtain ⟨c, hc, rfl⟩ := (pq_lt (by omega)).mp hv
      obtain ⟨e, he, rfl⟩ := (pq_le (by omega)).mp hx
      obtain ⟨y1, y2, y3⟩ := h.2.2.1.1.2.2.2.1 c hc
      replace y3 : cl_i σ 35 c = _ := y3
      obtain ⟨z1, z2, z3⟩ := hm.1.2.2.2.2.2 c hc
      rw [x3, pb_gdD _ (by decide), pb_gdD _ k0, r5, pb_gdD _ (by decide), pb_gdD _ k5, l5, pn_gdi _ (by omega) (by omega), nI_clamp (by omega), y3, pn_i22, pn_i24, pn_gdi _ (by omega) (by omega), nI_clamp (by omega), z3]
      by_cases hd : nI (pn_d (pa_net S) c) = nI e
      · rw [if_pos hd, if_pos hd]
        exact ⟨S, _, _, _, rfl, rfl, h, hm⟩
      rw [if_neg hd, if_neg hd]
      obtain ⟨σ1, b1, b2⟩ := pj_keep h
      obtain ⟨μ1, m1, m2, m3⟩ := pd_bec hm h (j := 24 + 3 * c) (by omega) (nI e)
      obtain ⟨f0, f3, g0, -, -, -, -, ⟨g5, gl5, gr5⟩, -⟩ := pe_30 b2
      have hN1 := b2.2.2.1.1
      rw [pa_kp_net S] at hN1
      let N' : pn_N := ((pn_P (pa_net S), pn_C (pa_net S), pn_lo (pa_net S), pn_hi (pa_net S)), pn_kd (pa_net S), pn_il (pa_net S), pn_a (pa_net S), pn_b (pa_net S), va_up (pn_d (pa_net S)) c e)
      have hok' : pn_ok N' := by
        refine ⟨hN.1, hN.2.1, hN.2.2.1, hN.2.2.2.1, fun c' hc' => ?_⟩
        obtain ⟨q1, q2, q3, q4⟩ := hN.2.2.2.2 c' hc'
        refine ⟨q1, q2, q3, ?_⟩
        show va_up (pn_d (pa_net S)) c e c' ≤ 30
        unfold va_up
        split
        · exact he
        · exact q4
      have hf := pc_fr_si σ1 35 (upd (cl_i σ1 35) c (nI e)) (Z := pk_Z 30) (Y := pc_0) (by unfold pk_Z; omega)
      refine ⟨_, nI (pn_d (pa_net S) c), cl_wi σ1 35 c (nI e), mo_A μ1 5 (24 + 3 * c) (nI e), ?_, ?_, pe_R b2 hf (pe_set (N' := N') hN1 hN hf ⟨rfl, rfl, rfl, rfl⟩ ?_ (fun p hp => ?_) (fun c' hc' => ?_)) hok', pd_mset hm m2 m3 ?_⟩
      · rw [b1, pb_b1, pb_gdD _ f0, f3, pb_gdD _ (by decide), pb_gdD _ g0, gr5, pb_gdD _ (by decide), pb_gdD _ g5, gl5, pn_gdi _ (by omega) (by omega), pb_let]
      · rw [m1, pb_b2, z3]
      · exact hN1.2.1
      · exact (hN1.2.2.1 p hp).2.1
      · obtain ⟨q1, q2, q3⟩ := hN1.2.2.2.1 c' hc'
        refine ⟨q1, q2, ?_⟩
        show upd (cl_i σ1 35) c (nI e) c' = nI (va_up (pn_d (pa_net S)) c e c')
        unfold upd va_up
        split
        · rfl
        · exact q3
      · obtain ⟨a0, a1, a2, a3, a4, a5⟩ := hm.1
        have W : ∀ j, upd (μ.2 5) (24 + 3 * c) (nI e) j = if j = 24 + 3 * c then nI e else μ.2 5 j := fun _ => rfl
        refine ⟨by rw [W, if_neg (by omega)]; exact a0, by rw [W, if_neg (by omega)]; exact a1, by rw [W, if_neg (by omega)]; exact a2, by rw [W, if_neg (by omega)]; exact a3, fun p hp => ?_, fun c' hc' => ?_⟩
        · have hp2 : p < pn_P (pa_net S) := hp
          rw [W, if_neg (by omega), W, if_neg (by omega)]
          exact a4 p hp2
        · obtain ⟨q1, q2, q3⟩ := a5 c' hc'
          rw [W, if_neg (by omega), W, if_neg (by omega), W]
          refine ⟨q1, q2, ?_⟩
          show _ = nI (va_up (pn_d (pa_net S)) c e c')
          unfold va_up
          by_cases hcc : c' = c
          · rw [if_pos (by omega), if_pos hcc]
          · rw [if_neg (by omega), if_neg hcc]
            exact q3
theorem pd_day (x : Int32) : pq_in x (-1) (nI 30) = (decide (x = -1) || pq_in x 0 (nI 30)) := by
  have h30 : (nI 30).toInt = 30 := by decide
  have hm1 : (-1 : Int32).toInt = -1 := by decide
  rw [Bool.eq_iff_iff, Bool.or_eq_true]
  unfold pq_in
  rw [decide_eq_true_iff, decide_eq_true_iff, decide_eq_true_iff, Int32.le_iff_toInt_le, Int32.le_iff_toInt_le, Int32.le_iff_toInt_le, h30, hm1, Int32.toInt_zero]
  constructor
  · rintro ⟨h1, h2⟩
    by_cases h3 : x.toInt = -1
    · exact Or.inl (Int32.toInt_inj.mp (by rw [h3, hm1]))
    · exact Or.inr ⟨by omega, h2⟩
  · rintro (h1 | ⟨h1, h2⟩)
    · rw [h1, hm1]; omega
    · omega
theorem pd_ill (h : pc_R σ S) (hm : pm_R μ S) (v x : Int32) : pq_any (cl_X0_ill 19 σ v x) (mo_ill μ v x) := by
  obtain ⟨hN, hpast, ha⟩ := pe_ok h
  have hP9 := hN.1
  have hC10 := hN.2.1
  have jd : mo_in x (-1 : Int32) (30 : Int32) = some (decide (x = -1) || pq_in x 0 (nI 30)) := by rw [← pd_day]; exact pq_m x (-1) 30
  have bad : pq_any (some ((-1000001 : Int32), σ)) (some ((-1000001 : Int32), μ)) := ⟨S, _, _, _, rfl, rfl, h, hm⟩
  obtain ⟨x0, x3, k0, -, ⟨k2, l2, r2⟩, -⟩ := pe_30 h
  unfold cl_X0_ill mo_ill
  rw [pb_gdD _ x0, pq_cP h, pq_cD, pq_mP hm, jd]
  simp only [pb_b1]
  cases hv : pq_in v 0 (nI (pn_P (pa_net S)) - 1) with
  | false => exact bad
  | true =>
    simp only [pb_ibT]
    obtain ⟨p, hp, rfl⟩ := (pq_lt (by omega)).mp hv
    have main : pn_okI x → pq_any (cl_X0_ill_J23 19 σ (nI p) x) (dx_gd (dx_inb (((4 : Int32) + ((2 : Int32) * (nI p))) + (1 : Int32)) 52) (if (μ.2 5 (((4 : Int32) + ((2 : Int32) * (nI p))) + (1 : Int32)).toNatClampNeg) = x then (some ((-1000002 : Int32), μ)) else (dx_b2 (mo_becomes μ (((4 : Int32) + ((2 : Int32) * (nI p))) + (1 : Int32)) x) fun r3 σ3 => (some (r3, σ3))))) := by
      intro hokI
      obtain ⟨-, y2, -⟩ := h.2.2.1.1.2.2.1 p hp
      replace y2 : cl_i σ 32 p = _ := y2
      obtain ⟨z1, z2⟩ := hm.1.2.2.2.2.1 p hp
      have cm : (nI (5 + 2 * p)).toNatClampNeg = 5 + 2 * p := nI_clamp (by omega)
      have im : dx_inb (nI (5 + 2 * p)) 52 = true := by rw [pb_inb (by omega), decide_eq_true (by omega)]
      unfold cl_X0_ill_J23
      rw [pb_gdD _ x0, x3, pb_gdD _ (by decide), pb_gdD _ k0, r2, pb_gdD _ (by decide), pb_gdD _ k2, l2, pn_gdi _ (by omega) (by omega), nI_clamp (by omega), y2, pn_i4, pn_i5, im, pb_gdT, cm, z2]
      by_cases hd : pn_il (pa_net S) p = x
      · rw [if_pos hd, if_pos hd]
        exact ⟨S, _, _, _, rfl, rfl, h, hm⟩
      rw [if_neg hd, if_neg hd]
      obtain ⟨σ1, b1, b2⟩ := pj_keep h
      obtain ⟨μ1, m1, m2, m3⟩ := pd_bec hm h (j := 5 + 2 * p) (by omega) x
      obtain ⟨f0, f3, g0, -, ⟨g5, gl5, gr5⟩, -⟩ := pe_30 b2
      have hN1 := b2.2.2.1.1
      rw [pa_kp_net S] at hN1
      let N' : pn_N := ((pn_P (pa_net S), pn_C (pa_net S), pn_lo (pa_net S), pn_hi (pa_net S)), pn_kd (pa_net S), va_up (pn_il (pa_net S)) p x, pn_a (pa_net S), pn_b (pa_net S), pn_d (pa_net S))
      have hok' : pn_ok N' := by
        refine ⟨hN.1, hN.2.1, hN.2.2.1, fun p' hp' => ?_, hN.2.2.2.2⟩
        obtain ⟨q1, q2, q3⟩ := hN.2.2.2.1 p' hp'
        refine ⟨q1, q2, ?_⟩
        show pn_okI (va_up (pn_il (pa_net S)) p x p')
        unfold va_up
        split
        · exact hokI
        · exact q3
      have hf := pc_fr_si σ1 32 (upd (cl_i σ1 32) p x) (Z := pk_Z 30) (Y := pc_0) (by unfold pk_Z; omega)
      refine ⟨_, pn_il (pa_net S) p, cl_wi σ1 32 p x, mo_A μ1 5 (5 + 2 * p) x, ?_, ?_, pe_R b2 hf (pe_set (N' := N') hN1 hN hf ⟨rfl, rfl, rfl, rfl⟩ ?_ (fun p' hp' => ?_) (fun c' hc' => ?_)) hok', pd_mset hm m2 m3 ?_⟩
      · rw [b1, pb_b1, pb_gdD _ f0, f3, pb_gdD _ (by decide), pb_gdD _ g0, gr5, pb_gdD _ (by decide), pb_gdD _ g5, gl5, pn_gdi _ (by omega) (by omega), pb_let]
      · rw [m1, pb_b2, z2]
      · exact hN1.2.1
      · show upd (cl_i σ1 32) p x p' = va_up (pn_il (pa_net S)) p x p'
        unfold upd va_up
        split
        · rfl
        · exact (hN1.2.2.1 p' hp').2.1
      · exact hN1.2.2.2.1 c' hc'
      · obtain ⟨a0, a1, a2, a3, a4, a5⟩ := hm.1
        have W : ∀ j, upd (μ.2 5) (5 + 2 * p) x j = if j = 5 + 2 * p then x else μ.2 5 j := fun _ => rfl
        refine ⟨by rw [W, if_neg (by omega)]; exact a0, by rw [W, if_neg (by omega)]; exact a1, by rw [W, if_neg (by omega)]; exact a2, by rw [W, if_neg (by omega)]; exact a3, fun p' hp' => ?_, fun c' hc' => ?_⟩
        · have hp2 : p' < pn_P (pa_net S) := hp'
          obtain ⟨q1, q2⟩ := a4 p' hp2
          rw [W, if_neg (by omega), W]
          refine ⟨q1, ?_⟩
          show _ = va_up (pn_il (pa_net S)) p x p'
          unfold va_up
          by_cases hcc : p' = p
          · rw [if_pos (by omega), if_pos hcc]
          · rw [if_neg (by omega), if_neg hcc]
            exact q2
        · have hc2 : c' < pn_C (pa_net S) := hc'
          rw [W, if_neg (by omega), W, if_neg (by omega), W, if_neg (by omega)]
          exact a5 c' hc2
    by_cases hx1 : x = -1
    · rw [if_pos hx1, decide_eq_true hx1, Bool.true_or, pb_ibT]
      exact main (Or.inl hx1)
    · rw [if_neg hx1, decide_eq_false hx1, Bool.false_or]
      cases hx : pq_in x 0 (nI 30) with
      | false => exact bad
      | true =>
        simp only [pb_ibT]
        obtain ⟨e, he, rfl⟩ := (pq_le (by omega)).mp hx
        exact main (Or.inr ⟨e, he, rfl⟩)
end PD
