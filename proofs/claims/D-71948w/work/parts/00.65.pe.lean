/-! acts: meet, part, date, ill -/
def pq_any (o : Option (Int32 × cl_S)) (q : Option (Int32 × mo_S)) : Prop := ∃ S, pq_res o q S
theorem pe_mA (μ : mo_S) (k i : Nat) (v : Int32) : (mo_A μ k i v).2 k = upd (μ.2 k) i v := va_up_self _ _ _
theorem pa_kp_net (S : pa_S) : pa_net (pa_kp S) = pa_net S := by
  unfold pa_kp
  split <;> rfl
theorem pm_R_net {μ μ' : mo_S} {S : pa_S} (hm : pm_R μ S) (h1 : μ'.1 = μ.1) (h2 : ∀ k, k ≠ 5 → μ'.2 k = μ.2 k) {N : pn_N} (hN : pn_m (μ'.2 5) N) : pm_R μ' ((N, pa_past S, pa_acts S), S.2) := by
  obtain ⟨-, m2, m3, m4, m5, m6, m7⟩ := hm
  refine ⟨hN, ?_, fun j hj => ?_, fun j hj => ?_, ?_, ?_, ?_⟩
  · rw [h1, h2 8 (by decide)]; exact m2
  · unfold pm_img
    rw [h2 10 (by decide), h2 9 (by decide)]
    exact m3 j hj
  · unfold pm_row
    rw [h2 0 (by decide), h2 1 (by decide), h2 2 (by decide)]
    exact m4 j hj
  · rw [h1, h2 4 (by decide)]; exact m5
  · rw [h1]; exact m6
  · rw [h1, h2 16 (by decide)]; exact m7
theorem pe_set {σ τ : cl_S} {o : Nat} {N N' : pn_N} (h : pc_N σ o N) (hN : pn_ok N) (hf : pc_fr σ τ (pk_Z o) pc_0) (e1 : pn_P N' = pn_P N ∧ pn_kd N' = pn_kd N ∧ pn_lo N' = pn_lo N ∧ pn_hi N' = pn_hi N) (e2 : cl_i τ o 0 = nI (pn_P N') ∧ cl_i τ o 1 = nI (pn_C N') ∧ cl_i τ o 2 = nI (pn_lo N') ∧ cl_i τ o 3 = nI (pn_hi N')) (e3 : ∀ p, p < pn_P N → cl_i τ (o + 2) p = pn_il N' p) (e4 : ∀ c, c < pn_C N' → cl_i τ (o + 3) c = nI (pn_a N' c) ∧ cl_i τ (o + 4) c = nI (pn_b N' c) ∧ cl_i τ (o + 5) c = nI (pn_d N' c)) : pc_N τ o N' := by
  obtain ⟨hs, -, hP, -, hA⟩ := h
  have hs0 := hs
  obtain ⟨⟨s0, s1⟩, k0, -, ⟨k2, -⟩, ⟨k3, -⟩, ⟨k4, -⟩, ⟨k5, -⟩, -⟩ := hs
  have hz : ∀ y, y ≤ cl_n σ → pk_Z o y → ¬ pc_pw σ y := by
    intro y _ hy
    unfold pc_pw
    unfold pk_Z at hy
    have : y = o ∨ y = o + 2 ∨ y = o + 3 ∨ y = o + 4 ∨ y = o + 5 := by omega
    rcases this with rfl | rfl | rfl | rfl | rfl <;> omega
  have r1 : cl_r τ (o + 1) = cl_r σ (o + 1) := (hf.2 (o + 1) (by omega)).2.2.2 (fun h => h)
  have r6 : cl_r τ (o + 6) = cl_r σ (o + 6) := (hf.2 (o + 6) (by omega)).2.2.2 (fun h => h)
  refine ⟨pc_sh_fr hf (fun h => h) hs0, e2, fun p hp => ?_, e4, fun j hj => ?_⟩
  · rw [e1.1] at hp
    obtain ⟨q1, -, q3⟩ := hP p hp
    have hk := hN.2.2.2.1 p hp
    rw [r1, r6, e1.2.1]
    refine ⟨pc_P_fr hf hz ⟨hk.1, hk.2.1⟩ q1, e3 p hp, ?_⟩
    unfold pc_Wp pn_lw pn_hg at q3 ⊢
    rw [e1.2.1, e1.2.2.1, e1.2.2.2]
    split
    · rename_i h4
      rw [if_pos h4] at q3
      exact pc_W_fr hf hz q3
    · rename_i h4
      rw [if_neg h4] at q3
      exact q3
  · obtain ⟨a1, a2⟩ := hA j hj
    have hc := hf.1
    rw [r1, r6]
    refine ⟨?_, ?_⟩
    · rcases a1 with a1 | ⟨a3, a4, a5⟩
      · exact Or.inl a1
      · have := (hf.2 _ a3).1
        exact Or.inr ⟨by omega, by omega, by omega⟩
    · rcases a2 with a2 | ⟨a3, a4⟩
      · exact Or.inl a2
      · have := (hf.2 _ a3).1
        exact Or.inr ⟨by omega, by omega⟩
section PE
variable {σ : cl_S} {μ : mo_S} {S : pa_S}
theorem pe_ok (h : pc_R σ S) : pn_ok (pa_net S) ∧ (∀ k, k < pa_acts S → pn_ok (pa_past S k)) ∧ pa_acts S ≤ 16 := ⟨h.2.2.1.2, fun k hk => (h.2.2.2.1.2.2 k hk).2.2, h.2.2.2.1.2.1⟩
/-- the net's numbers are written -/
theorem pe_R (h : pc_R σ S) {τ : cl_S} (hf : pc_fr σ τ (pk_Z 30) pc_0) {N : pn_N} (hN : pc_N τ 30 N) (hok : pn_ok N) : pc_R τ ((N, pa_past S, pa_acts S), S.2) :=
  pc_R_fr hf (fun y _ hy => by unfold pk_Z at hy; omega) (fun y _ hy => hy.elim) h ⟨hN, hok⟩
/-- where the net's arrays lie -/
def pe_F (σ : cl_S) : Prop := cl_k σ 19 = 0 ∧ cl_r σ 19 4 = 30 ∧ cl_k σ 30 = 2 ∧ (cl_k σ 31 = 25 ∧ cl_l σ 31 = 9 ∧ cl_r σ 30 4 = 31) ∧ (cl_k σ 32 = 20 ∧ cl_l σ 32 = 9 ∧ cl_r σ 30 5 = 32) ∧ (cl_k σ 33 = 20 ∧ cl_l σ 33 = 10 ∧ cl_r σ 30 6 = 33) ∧ (cl_k σ 34 = 20 ∧ cl_l σ 34 = 10 ∧ cl_r σ 30 7 = 34) ∧ (cl_k σ 35 = 20 ∧ cl_l σ 35 = 10 ∧ cl_r σ 30 8 = 35) ∧ (cl_k σ 36 = 26 ∧ cl_l σ 36 = 9 ∧ cl_r σ 30 9 = 36)
theorem pe_30 (h : pc_R σ S) : pe_F σ := by
  obtain ⟨⟨-, ⟨x0, -, -, x3, -⟩, -⟩, -, ⟨⟨⟨-, k0, k1, k2, k3, k4, k5, k6⟩, -⟩, -⟩, -⟩ := h
  exact ⟨x0, x3, k0, k1, k2, k3, k4, k5, k6⟩
theorem pe_meet (h : pc_R σ S) (hm : pm_R μ S) (v w x : Int32) : pq_any (cl_X0_meet 19 σ v w x) (mo_meet μ v w x) := by
  obtain ⟨hN, hpast, ha⟩ := pe_ok h
  have hP9 := hN.1
  have hC10 := hN.2.1
  have e1 : (1 : Int32).toNatClampNeg = 1 := by decide
  have jd : mo_in x (0 : Int32) (30 : Int32) = some (pq_in x 0 (nI 30)) := pq_m x 0 30
  have bad : pq_any (some ((-1000001 : Int32), σ)) (some ((-1000001 : Int32), μ)) := ⟨S, _, _, _, rfl, rfl, h, hm⟩
  obtain ⟨x0, x3, k0, -, -, -, -, -, -⟩ := pe_30 h
  unfold cl_X0_meet mo_meet
  rw [pb_gdD _ x0, pq_cP h, pq_cP h, pq_cD, pq_mP hm, pq_mP hm, jd, e1]
  simp only [pb_b1]
  cases hv : pq_in v 0 (nI (pn_P (pa_net S)) - 1) with
  | false => exact bad
  | true =>
    cases hw : pq_in w 0 (nI (pn_P (pa_net S)) - 1) with
    | false => exact bad
    | true =>
      simp only [pb_ibT]
      by_cases hvw : v = w
      · rw [if_pos hvw, if_pos hvw]; exact bad
      rw [if_neg hvw, if_neg hvw]
      cases hx : pq_in x 0 (nI 30) with
      | false => exact bad
      | true =>
        simp only [pb_ibT]
        rw [x3, pb_gdD _ (by decide), pb_gdD _ k0, h.2.2.1.1.2.1.2.1, hm.1.2.1]
        by_cases h10 : nI (pn_C (pa_net S)) = (10 : Int32)
        · rw [if_pos h10, if_pos h10]
          exact ⟨S, _, _, _, rfl, rfl, h, hm⟩
        rw [if_neg h10, if_neg h10]
        have hCl : pn_C (pa_net S) < 10 := by
          rcases Nat.lt_or_ge (pn_C (pa_net S)) 10 with q | q
          · exact q
          · exact absurd (by rw [show pn_C (pa_net S) = 10 by omega]; rfl) h10
        obtain ⟨p, hp, rfl⟩ := (pq_lt (by omega)).mp hv
        obtain ⟨q, hq, rfl⟩ := (pq_lt (by omega)).mp hw
        obtain ⟨e, he, rfl⟩ := (pq_le (by omega)).mp hx
        have hpq : p ≠ q := fun e => hvw (by rw [e])
        obtain ⟨σ1, b1, b2⟩ := pj_keep h
        obtain ⟨μ1, m1, m2, m3⟩ := pi_notes hm hN hpast ha
        have hn1 := pa_kp_net S
        have hN1 := b2.2.2.1.1
        rw [hn1] at hN1
        obtain ⟨y0, y3, z0, -, -, ⟨k3, l3, r3⟩, ⟨k4, l4, r4⟩, ⟨k5, l5, r5⟩, -⟩ := pe_30 b2
        have v1 := hN1.2.1.2.1
        obtain ⟨C, hC⟩ : ∃ C, C = pn_C (pa_net S) := ⟨_, rfl⟩
        rw [← hC] at v1 hCl
        let N' : pn_N := ((pn_P (pa_net S), C + 1, pn_lo (pa_net S), pn_hi (pa_net S)), pn_kd (pa_net S), pn_il (pa_net S), va_up (pn_a (pa_net S)) C p, va_up (pn_b (pa_net S)) C q, va_up (pn_d (pa_net S)) C e)
        have hok' : pn_ok N' := by
          refine ⟨hN.1, by show C + 1 ≤ 10; omega, hN.2.2.1, hN.2.2.2.1, fun c hc => ?_⟩
          show va_up (pn_a (pa_net S)) C p c < _ ∧ va_up (pn_b (pa_net S)) C q c < _ ∧ va_up (pn_a (pa_net S)) C p c ≠ va_up (pn_b (pa_net S)) C q c ∧ va_up (pn_d (pa_net S)) C e c ≤ 30
          by_cases hcC : c = C
          · rw [hcC, va_up_self, va_up_self, va_up_self]
            exact ⟨hp, hq, hpq, he⟩
          · rw [va_up_ne _ _ hcC, va_up_ne _ _ hcC, va_up_ne _ _ hcC]
            exact hN.2.2.2.2 c (by have : c < C + 1 := hc; omega)
        refine ⟨((N', pa_past (pa_kp S), pa_acts (pa_kp S)), (pa_kp S).2), nI (C + 1), ?_⟩
        obtain ⟨τ, hτ⟩ : ∃ τ, τ = cl_wi (cl_wi (cl_wi (cl_wi σ1 33 C (nI p)) 34 C (nI q)) 35 C (nI e)) 30 1 (nI (C + 1)) := ⟨_, rfl⟩
        obtain ⟨ν, hν⟩ : ∃ ν, ν = mo_A (mo_A (mo_A (mo_A μ1 5 (22 + 3 * C) (nI p)) 5 (23 + 3 * C) (nI q)) 5 (24 + 3 * C) (nI e)) 5 1 (nI (C + 1)) := ⟨_, rfl⟩
        refine ⟨τ, ν, ?_, ?_, ?_, ?_⟩
        · have F1 := pe_30 b2
          have F2 : pe_F (cl_wi σ1 33 C (nI p)) := F1
          have F3 : pe_F (cl_wi (cl_wi σ1 33 C (nI p)) 34 C (nI q)) := F1
          have F4 : pe_F (cl_wi (cl_wi (cl_wi σ1 33 C (nI p)) 34 C (nI q)) 35 C (nI e)) := F1
          have F5 : pe_F τ := by rw [hτ]; exact F1
          obtain ⟨-, f23, f2k, -, -, -, ⟨f24, f25, f26⟩, -⟩ := F2
          obtain ⟨-, f33, f3k, -, -, -, -, ⟨f34, f35, f36⟩, -⟩ := F3
          obtain ⟨-, f43, f4k, -⟩ := F4
          obtain ⟨-, f53, f5k, -⟩ := F5
          have v12 : cl_i (cl_wi σ1 33 C (nI p)) 30 1 = nI C := v1
          have v13 : cl_i (cl_wi (cl_wi σ1 33 C (nI p)) 34 C (nI q)) 30 1 = nI C := v1
          have v14 : cl_i (cl_wi (cl_wi (cl_wi σ1 33 C (nI p)) 34 C (nI q)) 35 C (nI e)) 30 1 = nI C := v1
          rw [b1, pb_b1, pb_gdD _ y0, y3, pb_gdD _ (by decide), pb_gdD _ z0, r3, pb_gdD _ (by decide), pb_gdD _ (by decide), pb_gdD _ k3, v1, l3, pn_gdi _ (by omega) (by omega), nI_clamp (by omega), pb_let]
          rw [f23, pb_gdD _ (by decide), pb_gdD _ f2k, f26, pb_gdD _ (by decide), pb_gdD _ (by decide), pb_gdD _ f24, v12, f25, pn_gdi _ (by omega) (by omega), nI_clamp (by omega), pb_let]
          rw [f33, pb_gdD _ (by decide), pb_gdD _ f3k, f36, pb_gdD _ (by decide), pb_gdD _ (by decide), pb_gdD _ f34, v13, f35, pn_gdi _ (by omega) (by omega), nI_clamp (by omega), pb_let]
          rw [f43, pb_gdD _ (by decide), pb_gdD _ f4k, v14, pb_let, ← nI_succ, ← hτ, f53, pb_gdD _ (by decide), pb_gdD _ f5k]
          congr 2
          rw [hτ]
          rfl
        · have v5 : μ1.2 5 1 = nI C := by rw [m3.2 5 (by decide), hm.1.2.1, hC]
          have e9 : nI C + (1 : Int32) = nI (C + 1) := (nI_succ C).symm
          rw [m1, pb_b1, v5, pn_i22, pn_i23, pn_i24, pn_gdi _ (by omega) (by omega), pn_gdi _ (by omega) (by omega), pn_gdi _ (by omega) (by omega), nI_clamp (by omega), nI_clamp (by omega), nI_clamp (by omega)]
          have ev : (mo_A (mo_A (mo_A μ1 5 (22 + 3 * C) (nI p)) 5 (23 + 3 * C) (nI q)) 5 (24 + 3 * C) (nI e)).2 5 1 = nI C := by
            rw [pe_mA, pe_mA, pe_mA]
            unfold upd
            rw [if_neg (by omega), if_neg (by omega), if_neg (by omega)]
            exact v5
          rw [ev, e9, ← hν]
          congr 2
          rw [hν, pe_mA]
          rfl
        · have hf : pc_fr σ1 τ (pk_Z 30) pc_0 := by
            rw [hτ]
            exact pc_fr_tr (pc_fr_tr (pc_fr_tr (pc_fr_si _ 33 _ (by unfold pk_Z; omega)) (pc_fr_si _ 34 _ (by unfold pk_Z; omega))) (pc_fr_si _ 35 _ (by unfold pk_Z; omega))) (pc_fr_si _ 30 _ (by unfold pk_Z; omega))
          have n33 : ¬ (33 : Nat) = 30 := by decide
          refine pe_R b2 hf (pe_set hN1 hN hf ⟨rfl, rfl, rfl, rfl⟩ ?_ (fun p hp => ?_) (fun c hc => ?_)) hok'
          · obtain ⟨w0, w1, w2, w3⟩ := hN1.2.1
            rw [hτ]
            exact ⟨w0, rfl, w2, w3⟩
          · rw [hτ]
            exact (hN1.2.2.1 p hp).2.1
          · rw [hτ]
            show upd (cl_i σ1 33) C (nI p) c = nI (va_up (pn_a (pa_net S)) C p c) ∧ upd (cl_i σ1 34) C (nI q) c = nI (va_up (pn_b (pa_net S)) C q c) ∧ upd (cl_i σ1 35) C (nI e) c = nI (va_up (pn_d (pa_net S)) C e c)
            unfold upd va_up
            by_cases hcC : c = C
            · rw [if_pos hcC, if_pos hcC, if_pos hcC, if_pos hcC, if_pos hcC, if_pos hcC]
              exact ⟨rfl, rfl, rfl⟩
            · rw [if_neg hcC, if_neg hcC, if_neg hcC, if_neg hcC, if_neg hcC, if_neg hcC]
              exact hN1.2.2.2.1 c (by have : c < C + 1 := hc; omega)
        · have w5 : ν.2 5 = upd (upd (upd (upd (μ.2 5) (22 + 3 * C) (nI p)) (23 + 3 * C) (nI q)) (24 + 3 * C) (nI e)) 1 (nI (C + 1)) := by
            rw [hν, ← m3.2 5 (by decide)]
            simp only [mo_A, va_up_self]
          refine pm_R_net m2 (by rw [hν]; rfl) (fun k hk => ?_) ?_
          · rw [hν]
            simp only [mo_A]
            rw [va_up_ne _ _ hk, va_up_ne _ _ hk, va_up_ne _ _ hk, va_up_ne _ _ hk]
          · obtain ⟨a0, a1, a2, a3, a4, a5⟩ := hm.1
            have W : ∀ j, ν.2 5 j = if j = 1 then nI (C + 1) else if j = 24 + 3 * C then nI e else if j = 23 + 3 * C then nI q else if j = 22 + 3 * C then nI p else μ.2 5 j := by
              intro j
              rw [w5]
              rfl
            refine ⟨?_, ?_, ?_, ?_, fun p' hp' => ⟨?_, ?_⟩, fun c hc => ?_⟩
            · rw [W, if_neg (by omega), if_neg (by omega), if_neg (by omega), if_neg (by omega)]; exact a0
            · rw [W, if_pos rfl]; rfl
            · rw [W, if_neg (by omega), if_neg (by omega), if_neg (by omega), if_neg (by omega)]; exact a2
            · rw [W, if_neg (by omega), if_neg (by omega), if_neg (by omega), if_neg (by omega)]; exact a3
            · have hp2 : p' < pn_P (pa_net S) := hp'
              rw [W, if_neg (by omega), if_neg (by omega), if_neg (by omega), if_neg (by omega)]; exact (a4 p' hp2).1
            · have hp2 : p' < pn_P (pa_net S) := hp'
              rw [W, if_neg (by omega), if_neg (by omega), if_neg (by omega), if_neg (by omega)]; exact (a4 p' hp2).2
            · have hc2 : c < C + 1 := hc
              show _ = nI (va_up (pn_a (pa_net S)) C p c) ∧ _ = nI (va_up (pn_b (pa_net S)) C q c) ∧ _ = nI (va_up (pn_d (pa_net S)) C e c)
              by_cases hcC : c = C
              · subst hcC
                rw [va_up_self, va_up_self, va_up_self]
                refine ⟨?_, ?_, ?_⟩
                · rw [W, if_neg (by omega), if_neg (by omega), if_neg (by omega), if_pos rfl]
                · rw [W, if_neg (by omega), if_neg (by omega), if_pos rfl]
                · rw [W, if_neg (by omega), if_pos rfl]
              · rw [va_up_ne _ _ hcC, va_up_ne _ _ hcC, va_up_ne _ _ hcC]
                obtain ⟨g1, g2, g3⟩ := a5 c (by omega)
                refine ⟨?_, ?_, ?_⟩
                · rw [W, if_neg (by omega), if_neg (by omega), if_neg (by omega), if_neg (by omega)]; exact g1
                · rw [W, if_neg (by omega), if_neg (by omega), if_neg (by omega), if_neg (by omega)]; exact g2
                · rw [W, if_neg (by omega), if_neg (by omega), if_neg (by omega), if_neg (by omega)]; exact g3
end PE
