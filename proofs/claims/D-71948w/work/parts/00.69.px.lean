/-! window, become -/
section PX0
variable {σ : cl_S}
theorem px_by (σ : cl_S) (hK : cl_K ≤ cl_n σ) {k p : Nat} (hk : 1 ≤ k ∧ k ≤ 5) : ∃ τ, cl_X0_personBy σ (nI k) (nI p) = some (cl_n σ + 1, τ) ∧ pc_fr σ τ pc_0 pc_0 ∧ pc_P τ (cl_n σ + 1) p k ∧ cl_n τ = cl_n σ + 1 := by
  have main : ∀ c, c = 8 + k → cl_X10_init (cl_n σ + 1) (cl_nw σ c 0) (nI p) = some (cl_wi (cl_nw σ c 0) (cl_n σ + 1) 0 (nI p)) := by
    intro c hc
    have e : cl_k (cl_nw σ c 0) (cl_n σ + 1) = c := by rw [pc_k_nw, if_pos rfl]
    unfold cl_X10_init
    rw [pb_gdD _ (by rw [e]; omega)]
  refine ⟨cl_wi (cl_nw σ (8 + k) 0) (cl_n σ + 1) 0 (nI p), ?_, pc_fr_sin (pc_fr_nw σ (8 + k) 0) (by omega) _, ⟨⟨by omega, Nat.le_refl _⟩, ?_, ?_⟩, rfl⟩
  · have h5 : k = 1 ∨ k = 2 ∨ k = 3 ∨ k = 4 ∨ k = 5 := by omega
    unfold cl_X0_personBy cl_X15_init cl_X12_init cl_X13_init cl_X11_init cl_X14_init
    rcases h5 with rfl | rfl | rfl | rfl | rfl
    · rw [if_pos (by decide), main 9 rfl]; rfl
    · rw [if_neg (by decide), if_pos (by decide), main 10 rfl]; rfl
    · rw [if_neg (by decide), if_neg (by decide), if_pos (by decide), main 11 rfl]; rfl
    · rw [if_neg (by decide), if_neg (by decide), if_neg (by decide), if_pos (by decide), main 12 rfl]; rfl
    · rw [if_neg (by decide), if_neg (by decide), if_neg (by decide), if_neg (by decide), main 13 rfl]; rfl
  · show cl_k (cl_nw σ (8 + k) 0) (cl_n σ + 1) = _
    rw [pc_k_nw, if_pos rfl]
  · rw [pc_wi, pc_i_si_s]
    rfl
end PX0
theorem px_M {σ : cl_S} {o : Nat} {N : pn_N} (h : pc_N σ o N) : pc_M σ o N := ⟨h.1, h.2.1, fun p hp => ⟨(h.2.2.1 p hp).1, (h.2.2.1 p hp).2.1⟩, h.2.2.2.1, h.2.2.2.2⟩
theorem px_Mset {σ τ : cl_S} {o : Nat} {N N' : pn_N} (h : pc_M σ o N) (hN : pn_ok N) (hf : pc_fr σ τ (fun y => y = o) pc_0) (e1 : pn_P N' = pn_P N ∧ pn_C N' = pn_C N ∧ N'.2 = N.2) (e2 : cl_i τ o 0 = nI (pn_P N') ∧ cl_i τ o 1 = nI (pn_C N') ∧ cl_i τ o 2 = nI (pn_lo N') ∧ cl_i τ o 3 = nI (pn_hi N')) : pc_M τ o N' := by
  obtain ⟨hs, -, hP, hC, hA⟩ := h
  have hs0 := hs
  obtain ⟨⟨s0, s1⟩, k0, -⟩ := hs
  have kd : pn_kd N' = pn_kd N ∧ pn_il N' = pn_il N ∧ pn_a N' = pn_a N ∧ pn_b N' = pn_b N ∧ pn_d N' = pn_d N := by
    unfold pn_kd pn_il pn_a pn_b pn_d
    rw [e1.2.2]
    exact ⟨rfl, rfl, rfl, rfl, rfl⟩
  have hz : ∀ y, y ≤ cl_n σ → y = o → ¬ pc_pw σ y := by
    intro y _ hy
    unfold pc_pw
    rw [hy, k0]
    omega
  have rr : ∀ y, y ≤ o + 6 → cl_r τ y = cl_r σ y := fun y hy => (hf.2 y (by omega)).2.2.2 (fun h => h)
  have ii : ∀ y, y ≤ o + 6 → y ≠ o → cl_i τ y = cl_i σ y := fun y hy h => (hf.2 y (by omega)).2.2.1 (fun h' => h h')
  refine ⟨pc_sh_fr hf (fun h => h) hs0, e2, fun p hp => ?_, fun c hc => ?_, fun j hj => ?_⟩
  · rw [e1.1] at hp
    have hk := hN.2.2.2.1 p hp
    rw [rr _ (by omega), ii (o + 2) (by omega) (by omega), kd.1, kd.2.1]
    exact ⟨pc_P_fr hf hz ⟨hk.1, hk.2.1⟩ (hP p hp).1, (hP p hp).2⟩
  · rw [e1.2.1] at hc
    rw [ii (o + 3) (by omega) (by omega), ii (o + 4) (by omega) (by omega), ii (o + 5) (by omega) (by omega), kd.2.2.1, kd.2.2.2.1, kd.2.2.2.2]
    exact hC c hc
  · obtain ⟨a1, a2⟩ := hA j hj
    have hc := hf.1
    rw [rr (o + 1) (by omega), rr (o + 6) (by omega)]
    refine ⟨?_, ?_⟩
    · rcases a1 with a1 | ⟨a3, a4, a5⟩
      · exact Or.inl a1
      · have := (hf.2 _ a3).1
        exact Or.inr ⟨by omega, by omega, by omega⟩
    · rcases a2 with a2 | ⟨a3, a4⟩
      · exact Or.inl a2
      · have := (hf.2 _ a3).1
        exact Or.inr ⟨by omega, by omega⟩
section PX
variable {σ : cl_S} {μ : mo_S} {S : pa_S}
/-- the net's numbers, its persons' array, its windows' array are written -/
theorem px_R (h : pc_R σ S) {τ : cl_S} (hf : pc_fr σ τ (fun y => y = 30) (fun y => y = 31 ∨ y = 36)) {N : pn_N} (hN : pc_N τ 30 N) (hok : pn_ok N) : pc_R τ ((N, pa_past S, pa_acts S), S.2) :=
  pc_R_fr hf (fun y _ hy => by have : y = 30 := hy; omega) (fun y _ hy => by have : y = 31 ∨ y = 36 := hy; omega) h ⟨hN, hok⟩
theorem px_winJ (h : pc_R σ S) (hm : pm_R μ S) (hP0 : 0 < pn_P (pa_net S)) {lo hi : Nat} (hb : 1 ≤ lo ∧ lo ≤ 9 ∧ lo ≤ hi ∧ hi ≤ 20) : pq_any (cl_X0_window_J63 19 σ (nI lo) (nI hi)) (mo_window_J56 μ (nI lo) (nI hi)) := by
  obtain ⟨hN, hpast, ha⟩ := pe_ok h
  have hP9 := hN.1
  have hC10 := hN.2.1
  obtain ⟨σ1, b1, b2⟩ := pj_keep h
  obtain ⟨μ1, m1, m2, m3⟩ := pd_bec hm h (j := 3) (by omega) (nI hi)
  have hN1 := b2.2.2.1.1
  rw [pa_kp_net S] at hN1
  let N' : pn_N := ((pn_P (pa_net S), pn_C (pa_net S), lo, hi), (pa_net S).2)
  have hok' : pn_ok N' := ⟨hN.1, hN.2.1, fun _ => hb, hN.2.2.2.1, hN.2.2.2.2⟩
  obtain ⟨τ, hτ⟩ : ∃ τ, τ = cl_wi (cl_wi σ1 30 2 (nI lo)) 30 3 (nI hi) := ⟨_, rfl⟩
  have hf : pc_fr σ1 τ (fun y => y = 30) pc_0 := by
    rw [hτ]
    exact pc_fr_tr (pc_fr_si _ 30 _ rfl) (pc_fr_si _ 30 _ rfl)
  have hM : pc_M τ 30 N' := by
    refine px_Mset (px_M hN1) hN hf ⟨rfl, rfl, rfl⟩ ?_
    obtain ⟨w0, w1, w2, w3⟩ := hN1.2.1
    rw [hτ]
    exact ⟨w0, w1, rfl, rfl⟩
  obtain ⟨τ2, s1, s2, s3⟩ := pi_stirred hM hok' hP0
  have F1 := pe_30 b2
  have F2 : pe_F (cl_wi σ1 30 2 (nI lo)) := F1
  have F3 : pe_F τ := by rw [hτ]; exact F1
  obtain ⟨y0, y3, z0, -⟩ := F1
  obtain ⟨-, f3, f2, -⟩ := F2
  obtain ⟨-, g3, g2, -⟩ := F3
  have v3 : cl_i σ1 30 3 = nI (pn_hi (pa_net S)) := hN1.2.1.2.2.2
  refine ⟨_, nI (pn_hi (pa_net S)), τ2, mo_A (mo_A μ1 5 3 (nI hi)) 5 2 (nI lo), ?_, ?_, px_R b2 (N := N') ?_ s3 hok', ?_⟩
  · unfold cl_X0_window_J63
    rw [pb_gdD _ (pe_30 h).1, b1, pb_b1, pb_gdD _ y0, y3, pb_gdD _ (by decide), pb_gdD _ z0, pb_gdD _ (by decide), f3, pb_gdD _ (by decide), pb_gdD _ f2, pb_let, ← hτ, g3, pb_gdD _ (by decide), pb_gdD _ g2, s1, pb_b2, pb_gdD _ (by decide), v3]
  · unfold mo_window_J56
    have m1' : mo_becomes μ (3 : Int32) (nI hi) = _ := m1
    rw [m1', pb_b2, hm.1.2.2.2.1]
    rfl
  · exact pc_fr_tr (pc_fr_mo hf (fun _ _ h => h) (fun _ _ h => h.elim)) (pc_fr_mo s2 (fun _ _ h => h.elim) (fun _ _ h => Or.inr h))
  · have w5 : (mo_A (mo_A μ1 5 3 (nI hi)) 5 2 (nI lo)).2 5 = upd (upd (μ.2 5) 3 (nI hi)) 2 (nI lo) := by
      rw [pe_mA, pe_mA, m3.2 5 (by decide)]
    refine pm_R_net (μ' := mo_A (mo_A μ1 5 3 (nI hi)) 5 2 (nI lo)) m2 rfl (fun k hk => ?_) ?_
    · show va_up (va_up μ1.2 5 (upd (μ1.2 5) 3 (nI hi))) 5 (upd (va_up μ1.2 5 (upd (μ1.2 5) 3 (nI hi)) 5) 2 (nI lo)) k = _
      rw [va_up_ne _ _ hk, va_up_ne _ _ hk]
    · obtain ⟨a0, a1, a2, a3, a4, a5⟩ := hm.1
      have W : ∀ j, (mo_A (mo_A μ1 5 3 (nI hi)) 5 2 (nI lo)).2 5 j = if j = 2 then nI lo else if j = 3 then nI hi else μ.2 5 j := by
        intro j
        rw [w5]
        rfl
      refine ⟨by rw [W, if_neg (by omega), if_neg (by omega)]; exact a0, by rw [W, if_neg (by omega), if_neg (by omega)]; exact a1, by rw [W, if_pos rfl]; rfl, by rw [W, if_neg (by omega), if_pos rfl]; rfl, fun p hp => ?_, fun c hc => ?_⟩
      · have hp2 : p < pn_P (pa_net S) := hp
        rw [W (4 + 2 * p), if_neg (show ¬ 4 + 2 * p = 2 by omega), if_neg (show ¬ 4 + 2 * p = 3 by omega), W (5 + 2 * p), if_neg (show ¬ 5 + 2 * p = 2 by omega), if_neg (show ¬ 5 + 2 * p = 3 by omega)]
        exact a4 p hp2
      · have hc2 : c < pn_C (pa_net S) := hc
        rw [W (22 + 3 * c), if_neg (show ¬ 22 + 3 * c = 2 by omega), if_neg (show ¬ 22 + 3 * c = 3 by omega), W (23 + 3 * c), if_neg (show ¬ 23 + 3 * c = 2 by omega), if_neg (show ¬ 23 + 3 * c = 3 by omega), W (24 + 3 * c), if_neg (show ¬ 24 + 3 * c = 2 by omega), if_neg (show ¬ 24 + 3 * c = 3 by omega)]
        exact a5 c hc2
theorem px_of {v : Int32} {a b : Nat} (hb : b < 2 ^ 31) (ha : a < 2 ^ 31) (h : pq_in v (nI a) (nI b) = true) : ∃ k, a ≤ k ∧ k ≤ b ∧ v = nI k := by
  unfold pq_in at h
  obtain ⟨h1, h2⟩ := of_decide_eq_true h
  rw [Int32.le_iff_toInt_le, nI_toInt ha] at h1
  rw [Int32.le_iff_toInt_le, nI_toInt hb] at h2
  obtain ⟨k, hk, rfl⟩ := pb_of (v := v) (by rw [Int32.lt_iff_toInt_lt, Int32.toInt_zero]; omega)
  rw [nI_toInt hk] at h1 h2
  exact ⟨k, by omega, by omega, rfl⟩
theorem px_window (h : pc_R σ S) (hm : pm_R μ S) (v w : Int32) : pq_any (cl_X0_window 19 σ v w) (mo_window μ v w) := by
  have hN := h.2.2.1.2
  have bad : pq_any (some ((-1000001 : Int32), σ)) (some ((-1000001 : Int32), μ)) := ⟨S, _, _, _, rfl, rfl, h, hm⟩
  have st : pq_any (some ((-1000002 : Int32), σ)) (some ((-1000002 : Int32), μ)) := ⟨S, _, _, _, rfl, rfl, h, hm⟩
  obtain ⟨x0, x3, k0, -⟩ := pe_30 h
  have i1 : cl_X0_isIn v.toInt64 (1 : Int64) (9 : Int64) = some (pq_in v (nI 1) (nI 9)) := pq_c v 1 9
  have i2 : cl_X0_isIn w.toInt64 v.toInt64 (20 : Int64) = some (pq_in w v (nI 20)) := pq_c w v 20
  have j1 : mo_in v (1 : Int32) (9 : Int32) = some (pq_in v (nI 1) (nI 9)) := pq_m v 1 9
  have j2 : mo_in w v (20 : Int32) = some (pq_in w v (nI 20)) := pq_m w v 20
  have e2 : (2 : Int32).toNatClampNeg = 2 := by decide
  have e3 : (3 : Int32).toNatClampNeg = 3 := by decide
  unfold cl_X0_window mo_window
  rw [pb_gdD _ x0, pt_cT h, pt_mT hm hN, i1, i2, j1, j2]
  simp only [pb_b1]
  cases hT : decide (0 < pn_P (pa_net S)) with
  | false => exact st
  | true =>
    simp only [pb_ibT]
    cases hv : pq_in v (nI 1) (nI 9) with
    | false => exact bad
    | true =>
      simp only [pb_ibT]
      cases hw : pq_in w v (nI 20) with
      | false => exact bad
      | true =>
        simp only [pb_ibT]
        obtain ⟨lo, l1, l2, rfl⟩ := px_of (by omega) (by omega) hv
        obtain ⟨hi, g1, g2, rfl⟩ := px_of (by omega) (by omega) hw
        have hP0 := of_decide_eq_true hT
        have main := px_winJ h hm hP0 (lo := lo) (hi := hi) ⟨l1, l2, g1, g2⟩
        rw [x3, pb_gdD _ (by decide), pb_gdD _ k0, h.2.2.1.1.2.1.2.2.1, h.2.2.1.1.2.1.2.2.2, e2, e3, hm.1.2.2.1, hm.1.2.2.2.1, pb_gdD _ (by decide)]
        by_cases q1 : nI (pn_lo (pa_net S)) = nI lo
        · rw [if_pos q1, if_pos q1]
          by_cases q2 : nI (pn_hi (pa_net S)) = nI hi
          · rw [if_pos q2, if_pos q2]
            exact st
          · rw [if_neg q2, if_neg q2]
            exact main
        · rw [if_neg q1, if_neg q1]
          exact main
theorem px_become (h : pc_R σ S) (hm : pm_R μ S) (v w : Int32) : pq_any (cl_X0_become 19 σ v w) (mo_become μ v w) := by
  obtain ⟨hN, hpast, ha⟩ := pe_ok h
  have hP9 := hN.1
  have hC10 := hN.2.1
  have bad : pq_any (some ((-1000001 : Int32), σ)) (some ((-1000001 : Int32), μ)) := ⟨S, _, _, _, rfl, rfl, h, hm⟩
  have st : pq_any (some ((-1000002 : Int32), σ)) (some ((-1000002 : Int32), μ)) := ⟨S, _, _, _, rfl, rfl, h, hm⟩
  obtain ⟨x0, x3, k0, ⟨k1, l1, r1⟩, -⟩ := pe_30 h
  have i1 : cl_X0_isIn w.toInt64 (1 : Int64) (5 : Int64) = some (pq_in w (nI 1) (nI 5)) := pq_c w 1 5
  have j1 : mo_in w (1 : Int32) (5 : Int32) = some (pq_in w (nI 1) (nI 5)) := pq_m w 1 5
  unfold cl_X0_become mo_become
  rw [pb_gdD _ x0, pq_cP h, pq_mP hm, i1, j1]
  simp only [pb_b1]
  cases hv : pq_in v 0 (nI (pn_P (pa_net S)) - 1) with
  | false => exact bad
  | true =>
    simp only [pb_ibT]
    cases hw : pq_in w (nI 1) (nI 5) with
    | false => exact bad
    | true =>
      simp only [pb_ibT]
      obtain ⟨p, hp, rfl⟩ := (pq_lt (by omega)).mp hv
      obtain ⟨k, g1, g2, rfl⟩ := px_of (by omega) (by omega) hw
      have hk := pq_kd h hp
      have nr : cl_r σ 31 p ≠ 0 := by
        have := (h.2.2.1.1.2.2.1 p hp).1.1.1
        have e : cl_K < cl_r σ 31 p := this
        omega
      have i9 : dx_inb (nI p) 9 = true := by rw [pb_inb (by omega), decide_eq_true (by omega)]
      have cc : (nI p).toNatClampNeg = p := nI_clamp (by omega)
      have im : dx_inb (nI (4 + 2 * p)) 52 = true := by rw [pb_inb (by omega), decide_eq_true (by omega)]
      have cm : (nI (4 + 2 * p)).toNatClampNeg = 4 + 2 * p := nI_clamp (by omega)
      rw [x3, pb_gdD _ (by decide), pb_gdD _ k0, r1, pb_gdD _ (by decide), pb_gdD _ k1, l1, i9, pb_gdT, cc, pb_gdD _ nr, hk, pb_b1, pn_i4, im, pb_gdT, cm, (hm.1.2.2.2.2.1 p hp).1]
      by_cases hd : nI (pn_kd (pa_net S) p) = nI k
      · rw [if_pos hd, if_pos hd]
        exact st
      rw [if_neg hd, if_neg hd]
      obtain ⟨σ1, b1, b2⟩ := pj_keep h
      obtain ⟨μ1, m1, m2, m3⟩ := pd_bec hm h (j := 4 + 2 * p) (by omega) (nI k)
      have hN1 := b2.2.2.1.1
      rw [pa_kp_net S] at hN1
      have F1 := pe_30 b2
      obtain ⟨y0, y3, z0, ⟨q1, ql1, qr1⟩, -⟩ := F1
      have hn54 := b2.1.1
      obtain ⟨τ, t1, t2, t3, t4⟩ := px_by σ1 (by unfold cl_K; omega) (k := k) (p := p) ⟨g1, g2⟩
      have k31 : cl_k τ 31 = 25 := by rw [(t2.2 31 (by omega)).1, q1]
      have l31 : cl_l τ 31 = 9 := by rw [(t2.2 31 (by omega)).2.1, ql1]
      have hkn : 9 ≤ cl_k τ (cl_n σ1 + 1) ∧ cl_k τ (cl_n σ1 + 1) ≤ 13 := by rw [t3.2.1]; omega
      let N' : pn_N := ((pn_P (pa_net S), pn_C (pa_net S), pn_lo (pa_net S), pn_hi (pa_net S)), va_up (pn_kd (pa_net S)) p k, (pa_net S).2.2)
      have hok' : pn_ok N' := by
        refine ⟨hN.1, hN.2.1, hN.2.2.1, fun p' hp' => ?_, hN.2.2.2.2⟩
        obtain ⟨u1, u2, u3⟩ := hN.2.2.2.1 p' hp'
        show 1 ≤ va_up (pn_kd (pa_net S)) p k p' ∧ va_up (pn_kd (pa_net S)) p k p' ≤ 5 ∧ _
        unfold va_up
        split
        · exact ⟨g1, g2, u3⟩
        · exact ⟨u1, u2, u3⟩
      obtain ⟨τ1, hτ1⟩ : ∃ τ1, τ1 = cl_wr τ 31 p (cl_n σ1 + 1) := ⟨_, rfl⟩
      have h2 : pc_fr τ τ1 pc_0 (fun y => y = 31) := by rw [hτ1]; exact pc_fr_sr _ _ _ rfl
      have hM0 : pc_M τ 30 (pa_net S) := pi_M_fr t2 ⟨fun _ _ h => h.elim, fun _ _ h => h.elim⟩ hN (px_M hN1)
      have r31 : cl_r τ1 31 = va_up (cl_r τ 31) p (cl_n σ1 + 1) := by rw [hτ1, pc_wr, pc_r_sr, if_pos rfl]
      have hM : pc_M τ1 30 N' := by
        obtain ⟨hs, v0, hP, hC, hA⟩ := hM0
        have rr : cl_r τ1 36 = cl_r τ 36 := (h2.2 36 (by omega)).2.2.2 (fun h => by have : (36 : Nat) = 31 := h; omega)
        have ii : ∀ y, cl_i τ1 y = cl_i τ y := by intro y; rw [hτ1]; rfl
        have kk : ∀ y, cl_k τ1 y = cl_k τ y := by intro y; rw [hτ1]; rfl
        have nn : cl_n τ1 = cl_n τ := by rw [hτ1]; rfl
        refine ⟨pc_sh_fr h2 (fun h => by have : (30 : Nat) = 31 := h; omega) hs, by rw [ii]; exact v0, fun p' hp' => ?_, fun c hc => by rw [ii, ii, ii]; exact hC c hc, fun j hj => ?_⟩
        · show pc_P τ1 (cl_r τ1 31 p') p' (va_up (pn_kd (pa_net S)) p k p') ∧ _
          rw [r31, ii]
          have hp2 : p' < pn_P (pa_net S) := hp'
          by_cases hpp : p' = p
          · rw [hpp, va_up_self, va_up_self]
            exact ⟨pc_P_fr h2 (fun _ _ h => h.elim) ⟨g1, g2⟩ t3, (hP p hp).2⟩
          · rw [va_up_ne _ _ hpp, va_up_ne _ _ hpp]
            have hkk := hN.2.2.2.1 p' hp2
            exact ⟨pc_P_fr h2 (fun _ _ h => h.elim) ⟨hkk.1, hkk.2.1⟩ (hP p' hp2).1, (hP p' hp2).2⟩
        · have := hA j hj
          show (cl_r τ1 31 j = 0 ∨ _) ∧ (cl_r τ1 36 j = 0 ∨ _)
          have hA1 : (cl_r τ 31 j = 0 ∨ cl_r τ 31 j ≤ cl_n τ ∧ 9 ≤ cl_k τ (cl_r τ 31 j) ∧ cl_k τ (cl_r τ 31 j) ≤ 13) ∧ (cl_r τ 36 j = 0 ∨ cl_r τ 36 j ≤ cl_n τ ∧ cl_k τ (cl_r τ 36 j) = 14) := this
          refine ⟨?_, ?_⟩
          · show _ ∨ (cl_r τ1 31 j ≤ cl_n τ1 ∧ 9 ≤ cl_k τ1 (cl_r τ1 31 j) ∧ cl_k τ1 (cl_r τ1 31 j) ≤ 13)
            rw [r31, nn, kk]
            by_cases hjp : j = p
            · rw [hjp, va_up_self]
              exact Or.inr ⟨by omega, hkn.1, hkn.2⟩
            · rw [va_up_ne _ _ hjp]
              exact hA1.1
          · show _ ∨ (cl_r τ1 36 j ≤ cl_n τ1 ∧ cl_k τ1 (cl_r τ1 36 j) = 14)
            rw [rr, nn, kk]
            exact hA1.2
      obtain ⟨τ2, s1, s2, s3⟩ := pi_stirred hM hok' (by show 0 < pn_P (pa_net S); omega)
      have y30 : cl_k τ1 19 = 0 ∧ cl_r τ1 19 4 = 30 ∧ cl_k τ1 30 = 2 := by
        obtain ⟨c1, -, -, c4⟩ := t2.2 19 (by omega)
        refine ⟨by rw [hτ1]; show cl_k τ 19 = 0; rw [c1, y0], ?_, hM.1.2.1⟩
        rw [hτ1, pc_wr, pc_r_sr, if_neg (by decide), c4 (fun h => h), y3]
      refine ⟨_, nI (pn_kd (pa_net S) p), τ2, mo_A μ1 5 (4 + 2 * p) (nI k), ?_, ?_, px_R b2 (N := N') ?_ s3 hok', pd_mset hm m2 m3 ?_⟩
      · rw [b1, pb_b1, pb_gdD _ y0, y3, pb_gdD _ (by decide), pb_gdD _ z0, qr1, pb_gdD _ (by decide), t1, pb_b2, pb_gdD _ (by omega), pb_gdD _ k31, l31, i9, pb_gdT, pb_gdD _ hkn, pb_let, ← hτ1, pb_gdD _ y30.1, y30.2.1, pb_gdD _ (by decide), pb_gdD _ y30.2.2, s1, pb_b2, pb_gdD _ (by decide)]
      · rw [m1, pb_b2, (hm.1.2.2.2.2.1 p hp).1]
      · exact pc_fr_tr (pc_fr_mo t2 (fun _ _ h => h.elim) (fun _ _ h => h.elim)) (pc_fr_tr (pc_fr_mo h2 (fun _ _ h => h.elim) (fun _ _ h => Or.inl h)) (pc_fr_mo s2 (fun _ _ h => h.elim) (fun _ _ h => Or.inr h)))
      · obtain ⟨a0, a1, a2, a3, a4, a5⟩ := hm.1
        have W : ∀ j, upd (μ.2 5) (4 + 2 * p) (nI k) j = if j = 4 + 2 * p then nI k else μ.2 5 j := fun _ => rfl
        refine ⟨by rw [W, if_neg (by omega)]; exact a0, by rw [W, if_neg (by omega)]; exact a1, by rw [W, if_neg (by omega)]; exact a2, by rw [W, if_neg (by omega)]; exact a3, fun p' hp' => ?_, fun c' hc' => ?_⟩
        · have hp2 : p' < pn_P (pa_net S) := hp'
          obtain ⟨q1, q2⟩ := a4 p' hp2
          rw [W (4 + 2 * p'), W (5 + 2 * p'), if_neg (show ¬ 5 + 2 * p' = 4 + 2 * p by omega)]
          refine ⟨?_, q2⟩
          show _ = nI (va_up (pn_kd (pa_net S)) p k p')
          unfold va_up
          by_cases hcc : p' = p
          · rw [if_pos (by omega), if_pos hcc]
          · rw [if_neg (by omega), if_neg hcc]
            exact q1
        · have hc2 : c' < pn_C (pa_net S) := hc'
          rw [W (22 + 3 * c'), if_neg (show ¬ 22 + 3 * c' = 4 + 2 * p by omega), W (23 + 3 * c'), if_neg (show ¬ 23 + 3 * c' = 4 + 2 * p by omega), W (24 + 3 * c'), if_neg (show ¬ 24 + 3 * c' = 4 + 2 * p by omega)]
          exact a5 c' hc2
end PX
