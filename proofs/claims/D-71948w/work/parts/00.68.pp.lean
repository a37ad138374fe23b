/-! part, window, become -/
def pp_sh {α : Type} (f : Nat → α) (c s i : Nat) : Nat → α := fun x => if c ≤ x ∧ x < c + i then f (x + s) else f x
theorem pp_sh_s (f : Nat → Int32) (c s i : Nat) (hs : 0 < s) : upd (pp_sh f c s i) (c + i) (pp_sh f c s i (c + i + s)) = pp_sh f c s (i + 1) := by
  funext x
  unfold upd pp_sh
  by_cases hx : x = c + i
  · rw [if_pos hx, if_neg (by omega), if_pos (by omega), hx]
  · rw [if_neg hx]
    by_cases h2 : c ≤ x ∧ x < c + i
    · rw [if_pos h2, if_pos (by omega)]
    · rw [if_neg h2, if_neg (by omega)]
theorem pp_sh_0 {α : Type} (f : Nat → α) (c s : Nat) : pp_sh f c s 0 = f := by
  funext x
  unfold pp_sh
  rw [if_neg (by omega)]
section PP
variable {σ : cl_S} {μ : mo_S} {S : pa_S}
theorem pp_part (h : pc_R σ S) (hm : pm_R μ S) (v : Int32) : pq_any (cl_X0_part 19 σ v) (mo_part μ v) := by
  obtain ⟨hN, hpast, ha⟩ := pe_ok h
  have hP9 := hN.1
  have hC10 := hN.2.1
  have bad : pq_any (some ((-1000001 : Int32), σ)) (some ((-1000001 : Int32), μ)) := ⟨S, _, _, _, rfl, rfl, h, hm⟩
  unfold cl_X0_part mo_part
  rw [pb_gdD _ (pe_30 h).1, pq_cC h, pq_mC hm]
  simp only [pb_b1]
  cases hv : pq_in v 0 (nI (pn_C (pa_net S)) - 1) with
  | false => exact bad
  | true =>
    simp only [pb_ibT]
    obtain ⟨c, hc, rfl⟩ := (pq_lt (by omega)).mp hv
    obtain ⟨σ1, b1, b2⟩ := pj_keep h
    obtain ⟨μ1, m1, m2, m3⟩ := pi_notes hm hN hpast ha
    have hN1 := b2.2.2.1.1
    rw [pa_kp_net S] at hN1
    obtain ⟨C, hC⟩ : ∃ C, pn_C (pa_net S) = C + 1 := ⟨pn_C (pa_net S) - 1, by omega⟩
    have F1 := pe_30 b2
    obtain ⟨y0, y3, z0, -, -, ⟨k3, l3, r3⟩, ⟨k4, l4, r4⟩, ⟨k5, l5, r5⟩, -⟩ := F1
    have v1 : cl_i σ1 30 1 - (1 : Int32) = nI C := by rw [hN1.2.1.2.1, hC, pl_1, pb_sub (by omega)]; rfl
    rw [b1, pb_b1, pb_gdD _ y0, y3, pb_gdD _ (by decide), pb_gdD _ z0, v1, pb_let, m1, pb_b1, pn_i22]
    obtain ⟨σ2, h2⟩ : ∃ τ, τ = cl_wi σ1 30 1 (nI C) := ⟨_, rfl⟩
    rw [← h2]
    obtain ⟨E, hE⟩ : ∃ E : Nat → cl_S, E = fun i => cl_si (cl_si (cl_si σ2 33 (pp_sh (cl_i σ2 33) c 1 i)) 34 (pp_sh (cl_i σ2 34) c 1 i)) 35 (pp_sh (cl_i σ2 35) c 1 i) := ⟨_, rfl⟩
    have E0 : E 0 = σ2 := by
      rw [hE]
      show cl_si (cl_si (cl_si σ2 33 (pp_sh (cl_i σ2 33) c 1 0)) 34 (pp_sh (cl_i σ2 34) c 1 0)) 35 (pp_sh (cl_i σ2 35) c 1 0) = σ2
      rw [pp_sh_0, pp_sh_0, pp_sh_0, pc_si_self]
      rw [show cl_i σ2 34 = cl_i (cl_si σ2 33 (cl_i σ2 33)) 34 by rw [pc_si_self], pc_si_self]
      rw [pc_si_self]
      rw [pc_si_self]
    have i30 : ∀ i, cl_i (E i) 30 1 = nI C := by
      intro i
      rw [hE, h2]
      rfl
    have FE : ∀ i, pe_F (E i) := by
      intro i
      rw [hE, h2]
      exact (pe_30 b2 : pe_F σ1)
    have hclass : dx_lp (fun x : Int32 × cl_S => cl_X0_part_L30 19 x.2 x.1) dx_fu (nI c, σ2) = some (nI C, E (C - c)) := by
      have key := pb_lp (b := fun x : Int32 × cl_S => cl_X0_part_L30 19 x.2 x.1) (z := (nI C, E (C - c))) (C - c) (fun i => (nI (c + i), E i)) (fun i hi => ?_) ?_ (by omega)
      · rw [E0] at key
        exact key
      · show cl_X0_part_L30 19 (E i) (nI (c + i)) = some (.inl (nI (c + (i + 1)), E (i + 1)))
        obtain ⟨y0, y3, z0, -, -, ⟨k3, l3, r3⟩, ⟨k4, l4, r4⟩, ⟨k5, l5, r5⟩, -⟩ := FE i
        have hle : ¬ nI C ≤ nI (c + i) := fun h => absurd ((pb_le (by omega) (by omega)).mp h) (by omega)
        have e9 : nI (c + i) + (1 : Int32) = nI (c + i + 1) := (nI_succ (c + i)).symm
        have i1 : dx_inb (nI (c + i)) 10 = true := by rw [pb_inb (by omega), decide_eq_true (by omega)]
        have i2 : dx_inb (nI (c + i + 1)) 10 = true := by rw [pb_inb (by omega), decide_eq_true (by omega)]
        have c1 : (nI (c + i)).toNatClampNeg = c + i := nI_clamp (by omega)
        have c2 : (nI (c + i + 1)).toNatClampNeg = c + i + 1 := nI_clamp (by omega)
        obtain ⟨τ1, t1⟩ : ∃ τ, τ = cl_wi (E i) 33 (c + i) (cl_i (E i) 33 (c + i + 1)) := ⟨_, rfl⟩
        obtain ⟨τ2, t2⟩ : ∃ τ, τ = cl_wi τ1 34 (c + i) (cl_i τ1 34 (c + i + 1)) := ⟨_, rfl⟩
        obtain ⟨τ3, t3⟩ : ∃ τ, τ = cl_wi τ2 35 (c + i) (cl_i τ2 35 (c + i + 1)) := ⟨_, rfl⟩
        have F2 : pe_F τ1 := by rw [t1]; exact FE i
        have F3 : pe_F τ2 := by rw [t2]; exact F2
        obtain ⟨f20, f23, f2k, -, -, -, ⟨f24, f25, f26⟩, -⟩ := F2
        obtain ⟨f30, f33, f3k, -, -, -, -, ⟨f34, f35, f36⟩, -⟩ := F3
        have fin : τ3 = E (i + 1) := by
          rw [t3, t2, t1, hE]
          simp only [pc_wi]
          have a33 : cl_i (cl_si (cl_si (cl_si σ2 33 (pp_sh (cl_i σ2 33) c 1 i)) 34 (pp_sh (cl_i σ2 34) c 1 i)) 35 (pp_sh (cl_i σ2 35) c 1 i)) 33 = pp_sh (cl_i σ2 33) c 1 i := rfl
          have a34 : ∀ g, cl_i (cl_si (cl_si (cl_si (cl_si σ2 33 (pp_sh (cl_i σ2 33) c 1 i)) 34 (pp_sh (cl_i σ2 34) c 1 i)) 35 (pp_sh (cl_i σ2 35) c 1 i)) 33 g) 34 = pp_sh (cl_i σ2 34) c 1 i := fun _ => rfl
          have a35 : ∀ g g', cl_i (cl_si (cl_si (cl_si (cl_si (cl_si σ2 33 (pp_sh (cl_i σ2 33) c 1 i)) 34 (pp_sh (cl_i σ2 34) c 1 i)) 35 (pp_sh (cl_i σ2 35) c 1 i)) 33 g) 34 g') 35 = pp_sh (cl_i σ2 35) c 1 i := fun _ _ => rfl
          rw [a33, a34, a35, pp_sh_s _ _ _ _ (by decide), pp_sh_s _ _ _ _ (by decide), pp_sh_s _ _ _ _ (by decide)]
          refine Prod.ext rfl (Prod.ext rfl (Prod.ext rfl (Prod.ext ?_ rfl)))
          funext j
          unfold cl_si va_up
          by_cases q1 : j = 35
          · simp only [q1, if_true]
          · by_cases q2 : j = 34
            · simp only [q2, if_true]
            · by_cases q3 : j = 33
              · simp only [q3, if_true]
              · simp only [q1, q2, q3, if_false]
        unfold cl_X0_part_L30
        rw [pb_gdD _ y0, y3, pb_gdD _ (by decide), pb_gdD _ z0, i30, if_neg hle, e9, pb_gdD _ (by decide), r3, pb_gdD _ (by decide), pb_gdD _ (by decide), pb_gdD _ (by decide), pb_gdD _ k3, l3, i2, pb_gdT, i1, pb_gdT, c1, c2, pb_let, ← t1]
        rw [f23, pb_gdD _ (by decide), pb_gdD _ f2k, f26, pb_gdD _ (by decide), pb_gdD _ (by decide), pb_gdD _ (by decide), pb_gdD _ f24, f25, i2, pb_gdT, i1, pb_gdT, pb_let, ← t2]
        rw [f33, pb_gdD _ (by decide), pb_gdD _ f3k, f36, pb_gdD _ (by decide), pb_gdD _ (by decide), pb_gdD _ (by decide), pb_gdD _ f34, f35, i2, pb_gdT, i1, pb_gdT, pb_let, ← t3, fin]
        rfl
      · show cl_X0_part_L30 19 (E (C - c)) (nI (c + (C - c))) = _
        obtain ⟨y0, y3, z0, -⟩ := FE (C - c)
        unfold cl_X0_part_L30
        rw [pb_gdD _ y0, y3, pb_gdD _ (by decide), pb_gdD _ z0, i30, if_pos ((pb_le (by omega) (by omega)).mpr (by omega)), pb_gdD _ (by decide)]
        rfl
    obtain ⟨ν, hν⟩ : ∃ ν : mo_S, ν = mo_A (μ1.1, va_up μ1.2 5 (pp_sh (μ1.2 5) (22 + 3 * c) 3 (27 - 3 * c))) 5 1 (nI C) := ⟨_, rfl⟩
    have e1 : (1 : Int32).toNatClampNeg = 1 := by decide
    have m51 : μ1.2 5 1 = nI (C + 1) := by rw [m3.2 5 (by decide), hm.1.2.1, hC]
    have hmodel : dx_lp (fun x : Int32 × mo_S => mo_part_L22 x.2 x.1) dx_fu (nI (22 + 3 * c), μ1) = some (nI C, ν) := by
      have key := pb_lp (b := fun x : Int32 × mo_S => mo_part_L22 x.2 x.1) (z := (nI C, ν)) (27 - 3 * c) (fun i => (nI (22 + 3 * c + i), ((μ1.1, va_up μ1.2 5 (pp_sh (μ1.2 5) (22 + 3 * c) 3 i)) : mo_S))) (fun i hi => ?_) ?_ (by omega)
      · have e0 : ((μ1.1, va_up μ1.2 5 (pp_sh (μ1.2 5) (22 + 3 * c) 3 0)) : mo_S) = μ1 := by
          refine Prod.ext rfl ?_
          funext j
          show va_up μ1.2 5 (pp_sh (μ1.2 5) (22 + 3 * c) 3 0) j = _
          rw [pp_sh_0]
          unfold va_up
          split
          · rename_i e; rw [e]
          · rfl
        show _ = _
        have k2 := key
        rw [e0] at k2
        exact k2
      · show mo_part_L22 (μ1.1, va_up μ1.2 5 (pp_sh (μ1.2 5) (22 + 3 * c) 3 i)) (nI (22 + 3 * c + i)) = some (.inl (nI (22 + 3 * c + (i + 1)), ((μ1.1, va_up μ1.2 5 (pp_sh (μ1.2 5) (22 + 3 * c) 3 (i + 1))) : mo_S)))
        have e3 : nI (22 + 3 * c + i) + (3 : Int32) = nI (22 + 3 * c + i + 3) := pb_add _ 3
        have h52 : ¬ (52 : Int32) ≤ nI (22 + 3 * c + i + 3) := fun h => absurd ((pb_le (a := 52) (by omega) (by omega)).mp h) (by omega)
        have i1 : dx_inb (nI (22 + 3 * c + i)) 52 = true := by rw [pb_inb (by omega), decide_eq_true (by omega)]
        have i2 : dx_inb (nI (22 + 3 * c + i + 3)) 52 = true := by rw [pb_inb (by omega), decide_eq_true (by omega)]
        have c1 : (nI (22 + 3 * c + i)).toNatClampNeg = 22 + 3 * c + i := nI_clamp (by omega)
        have c2 : (nI (22 + 3 * c + i + 3)).toNatClampNeg = 22 + 3 * c + i + 3 := nI_clamp (by omega)
        unfold mo_part_L22
        rw [e3, if_neg h52, i2, pb_gdT, i1, pb_gdT, c1, c2, ← nI_succ]
        congr 3
        refine Prod.ext rfl ?_
        funext j
        have q5 : va_up μ1.2 5 (pp_sh (μ1.2 5) (22 + 3 * c) 3 i) 5 = pp_sh (μ1.2 5) (22 + 3 * c) 3 i := va_up_self _ _ _
        show va_up (va_up μ1.2 5 (pp_sh (μ1.2 5) (22 + 3 * c) 3 i)) 5 (upd (va_up μ1.2 5 (pp_sh (μ1.2 5) (22 + 3 * c) 3 i) 5) (22 + 3 * c + i) (va_up μ1.2 5 (pp_sh (μ1.2 5) (22 + 3 * c) 3 i) 5 (22 + 3 * c + i + 3))) j = va_up μ1.2 5 (pp_sh (μ1.2 5) (22 + 3 * c) 3 (i + 1)) j
        rw [q5, pp_sh_s _ _ _ _ (by decide)]
        unfold va_up
        split <;> rfl
      · show mo_part_L22 (μ1.1, va_up μ1.2 5 (pp_sh (μ1.2 5) (22 + 3 * c) 3 (27 - 3 * c))) (nI (22 + 3 * c + (27 - 3 * c))) = _
        have e3 : nI (22 + 3 * c + (27 - 3 * c)) + (3 : Int32) = nI 52 := by
          rw [show 22 + 3 * c + (27 - 3 * c) = 49 by omega]
          rfl
        have q5 : va_up μ1.2 5 (pp_sh (μ1.2 5) (22 + 3 * c) 3 (27 - 3 * c)) 5 1 = nI (C + 1) := by
          rw [va_up_self]
          unfold pp_sh
          rw [if_neg (by omega)]
          exact m51
        have qs : nI (C + 1) - (1 : Int32) = nI C := by rw [pl_1, pb_sub (by omega)]; rfl
        unfold mo_part_L22
        rw [e3, if_pos (by decide), e1]
        show some (Sum.inr ((mo_A (μ1.1, va_up μ1.2 5 (pp_sh (μ1.2 5) (22 + 3 * c) 3 (27 - 3 * c))) 5 1 (va_up μ1.2 5 (pp_sh (μ1.2 5) (22 + 3 * c) 3 (27 - 3 * c)) 5 1 - 1)).2 5 1, mo_A (μ1.1, va_up μ1.2 5 (pp_sh (μ1.2 5) (22 + 3 * c) 3 (27 - 3 * c))) 5 1 (va_up μ1.2 5 (pp_sh (μ1.2 5) (22 + 3 * c) 3 (27 - 3 * c)) 5 1 - 1))) = _
        rw [q5, qs, ← hν]
        congr 3
        rw [hν, pe_mA]
        rfl
    rw [hclass, hmodel]
    let N' : pn_N := ((pn_P (pa_net S), C, pn_lo (pa_net S), pn_hi (pa_net S)), pn_kd (pa_net S), pn_il (pa_net S), pp_sh (pn_a (pa_net S)) c 1 (C - c), pp_sh (pn_b (pa_net S)) c 1 (C - c), pp_sh (pn_d (pa_net S)) c 1 (C - c))
    have hok' : pn_ok N' := by
      refine ⟨hN.1, by show C ≤ 10; omega, hN.2.2.1, hN.2.2.2.1, fun c' hc' => ?_⟩
      have hc2 : c' < C := hc'
      show pp_sh (pn_a (pa_net S)) c 1 (C - c) c' < _ ∧ pp_sh (pn_b (pa_net S)) c 1 (C - c) c' < _ ∧ pp_sh (pn_a (pa_net S)) c 1 (C - c) c' ≠ pp_sh (pn_b (pa_net S)) c 1 (C - c) c' ∧ pp_sh (pn_d (pa_net S)) c 1 (C - c) c' ≤ 30
      unfold pp_sh
      split
      · exact hN.2.2.2.2 (c' + 1) (by omega)
      · exact hN.2.2.2.2 c' (by omega)
    have hf : pc_fr σ1 (E (C - c)) (pk_Z 30) pc_0 := by
      rw [hE, h2]
      exact pc_fr_tr (pc_fr_tr (pc_fr_tr (pc_fr_si _ 30 _ (by unfold pk_Z; omega)) (pc_fr_si _ 33 _ (by unfold pk_Z; omega))) (pc_fr_si _ 34 _ (by unfold pk_Z; omega))) (pc_fr_si _ 35 _ (by unfold pk_Z; omega))
    refine ⟨_, nI C, E (C - c), ν, rfl, rfl, pe_R b2 hf (pe_set (N' := N') hN1 hN hf ⟨rfl, rfl, rfl, rfl⟩ ?_ (fun p hp => ?_) (fun c' hc' => ?_)) hok', ?_⟩
    · obtain ⟨w0, w1, w2, w3⟩ := hN1.2.1
      rw [hE, h2]
      exact ⟨w0, rfl, w2, w3⟩
    · rw [hE, h2]
      exact (hN1.2.2.1 p hp).2.1
    · have hc2 : c' < C := hc'
      rw [hE, h2]
      show pp_sh (cl_i σ1 33) c 1 (C - c) c' = nI (pp_sh (pn_a (pa_net S)) c 1 (C - c) c') ∧ pp_sh (cl_i σ1 34) c 1 (C - c) c' = nI (pp_sh (pn_b (pa_net S)) c 1 (C - c) c') ∧ pp_sh (cl_i σ1 35) c 1 (C - c) c' = nI (pp_sh (pn_d (pa_net S)) c 1 (C - c) c')
      unfold pp_sh
      by_cases q : c ≤ c' ∧ c' < c + (C - c)
      · simp only [q, and_self, if_true]
        exact hN1.2.2.2.1 (c' + 1) (by omega)
      · rw [if_neg q, if_neg q, if_neg q, if_neg q, if_neg q, if_neg q]
        exact hN1.2.2.2.1 c' (by omega)
    · have w5 : ν.2 5 = upd (pp_sh (μ.2 5) (22 + 3 * c) 3 (27 - 3 * c)) 1 (nI C) := by
        rw [hν, pe_mA]
        show upd (va_up μ1.2 5 (pp_sh (μ1.2 5) (22 + 3 * c) 3 (27 - 3 * c)) 5) 1 (nI C) = _
        rw [va_up_self, m3.2 5 (by decide)]
      have W : ∀ j, ν.2 5 j = if j = 1 then nI C else if 22 + 3 * c ≤ j ∧ j < 22 + 3 * c + (27 - 3 * c) then μ.2 5 (j + 3) else μ.2 5 j := by
        intro j
        rw [w5]
        rfl
      refine pm_R_net m2 (by rw [hν]; rfl) (fun k hk => ?_) ?_
      · rw [hν]
        show va_up (va_up μ1.2 5 (pp_sh (μ1.2 5) (22 + 3 * c) 3 (27 - 3 * c))) 5 (upd (va_up μ1.2 5 (pp_sh (μ1.2 5) (22 + 3 * c) 3 (27 - 3 * c)) 5) 1 (nI C)) k = _
        rw [va_up_ne _ _ hk, va_up_ne _ _ hk]
      · obtain ⟨a0, a1, a2, a3, a4, a5⟩ := hm.1
        refine ⟨by rw [W, if_neg (by omega), if_neg (by omega)]; exact a0, by rw [W, if_pos rfl]; rfl, by rw [W, if_neg (by omega), if_neg (by omega)]; exact a2, by rw [W, if_neg (by omega), if_neg (by omega)]; exact a3, fun p hp => ?_, fun c' hc' => ?_⟩
        · have hp2 : p < pn_P (pa_net S) := hp
          rw [W, if_neg (by omega), if_neg (by omega), W, if_neg (by omega), if_neg (by omega)]
          exact a4 p hp2
        · have hc2 : c' < C := hc'
          show _ = nI (pp_sh (pn_a (pa_net S)) c 1 (C - c) c') ∧ _ = nI (pp_sh (pn_b (pa_net S)) c 1 (C - c) c') ∧ _ = nI (pp_sh (pn_d (pa_net S)) c 1 (C - c) c')
          rw [W (22 + 3 * c'), if_neg (show ¬ 22 + 3 * c' = 1 by omega), W (23 + 3 * c'), if_neg (show ¬ 23 + 3 * c' = 1 by omega), W (24 + 3 * c'), if_neg (show ¬ 24 + 3 * c' = 1 by omega)]
          unfold pp_sh
          by_cases q : c ≤ c' ∧ c' < c + (C - c)
          · have e := a5 (c' + 1) (by omega)
            rw [if_pos (show 22 + 3 * c ≤ 22 + 3 * c' ∧ 22 + 3 * c' < 22 + 3 * c + (27 - 3 * c) by omega), if_pos (show 22 + 3 * c ≤ 23 + 3 * c' ∧ 23 + 3 * c' < 22 + 3 * c + (27 - 3 * c) by omega), if_pos (show 22 + 3 * c ≤ 24 + 3 * c' ∧ 24 + 3 * c' < 22 + 3 * c + (27 - 3 * c) by omega), if_pos q, if_pos q, if_pos q]
            rw [show 22 + 3 * c' + 3 = 22 + 3 * (c' + 1) by omega, show 23 + 3 * c' + 3 = 23 + 3 * (c' + 1) by omega, show 24 + 3 * c' + 3 = 24 + 3 * (c' + 1) by omega]
            exact e
          · rw [if_neg (show ¬ (22 + 3 * c ≤ 22 + 3 * c' ∧ 22 + 3 * c' < 22 + 3 * c + (27 - 3 * c)) by omega), if_neg (show ¬ (22 + 3 * c ≤ 23 + 3 * c' ∧ 23 + 3 * c' < 22 + 3 * c + (27 - 3 * c)) by omega), if_neg (show ¬ (22 + 3 * c ≤ 24 + 3 * c' ∧ 24 + 3 * c' < 22 + 3 * c + (27 - 3 * c)) by omega), if_neg q, if_neg q, if_neg q]
            exact a5 c' (by omega)
end PP
