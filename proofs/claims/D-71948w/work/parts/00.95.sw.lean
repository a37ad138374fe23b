/-! written: the Model's text; both -/
theorem sw_99 : ∀ x : Fin 100, (48 : Int32) + (nI x.val - nI x.val / (10 : Int32) * (10 : Int32)) = nI (48 + x.val % 10) ∧ (48 : Int32) + nI x.val / (10 : Int32) = nI (48 + x.val / 10) := by decide +kernel
/-- what stands written, what else has changed -/
def sw_B (μ ν : mo_S) (xs : List Nat) : Prop := (∀ k, k ≠ 10 → ν.1 k = μ.1 k) ∧ (∀ k, k ≠ 15 → ν.2 k = μ.2 k) ∧ ν.1 10 = nI xs.length ∧ ∀ i b, xs[i]? = some b → ν.2 15 i = nI b
section SW
variable {μ ν : mo_S} {xs : List Nat}
theorem sw_sg (h : sw_B μ ν xs) (hl : xs.length < 120) (x : Nat) : ∃ ν', mo_signs ν (nI x) = some ν' ∧ sw_B μ ν' (xs ++ [x]) := by
  obtain ⟨h1, h2, h3, h4⟩ := h
  have e10 : (mo_A ν 15 xs.length (nI x)).1 10 = nI xs.length := h3
  refine ⟨mo_I (mo_A ν 15 xs.length (nI x)) 10 (nI (xs.length + 1)), ?_, fun k hk => ?_, fun k hk => ?_, ?_, fun i b hb => ?_⟩
  · unfold mo_signs
    rw [h3, pn_gdi _ hl (by omega), nI_clamp (by omega), e10, ← nI_succ]
  · show upd ν.1 10 (nI (xs.length + 1)) k = _
    unfold upd
    rw [if_neg hk]
    exact h1 k hk
  · show va_up ν.2 15 (upd (ν.2 15) xs.length (nI x)) k = _
    rw [va_up_ne _ _ hk]
    exact h2 k hk
  · rw [List.length_append]
    rfl
  · show va_up ν.2 15 (upd (ν.2 15) xs.length (nI x)) 15 i = _
    rw [va_up_self]
    unfold upd
    rcases ss_app hb with ⟨g1, g2⟩ | ⟨g1, g2⟩
    · rw [if_neg (by omega)]
      exact h4 i b g2
    · obtain ⟨j, hj⟩ : ∃ j, j = i - xs.length := ⟨_, rfl⟩
      rw [← hj] at g2
      cases j with
      | zero =>
        have : x = b := by simpa using g2
        rw [if_pos (by omega), this]
      | succ j => simp at g2
theorem sw_fg (h : sw_B μ ν xs) {x : Nat} (hx : x < 100) (hl : xs.length + (ss_dg x).length ≤ 120) : ∃ ν', mo_figures ν (nI x) = some ν' ∧ sw_B μ ν' (xs ++ ss_dg x) := by
  obtain ⟨n1, n2⟩ : (48 : Int32) + (nI x - nI x / (10 : Int32) * (10 : Int32)) = nI (48 + x % 10) ∧ (48 : Int32) + nI x / (10 : Int32) = nI (48 + x / 10) := sw_99 ⟨x, hx⟩
  have hle : nI x ≤ (9 : Int32) ↔ x ≤ 9 := pb_le (b := 9) (by omega) (by omega)
  by_cases h10 : x < 10
  · have ed : ss_dg x = [48 + x] := if_pos h10
    have el : (ss_dg x).length = 1 := by rw [ed]; rfl
    obtain ⟨ν', e, B⟩ := sw_sg h (by omega) (48 + x)
    refine ⟨ν', ?_, by rw [ed]; exact B⟩
    unfold mo_figures mo_figures_J17
    rw [if_pos (hle.mpr (by omega)), n1, show x % 10 = x by omega, e, pb_b1]
  · have ed : ss_dg x = [48 + x / 10, 48 + x % 10] := if_neg h10
    have el : (ss_dg x).length = 2 := by rw [ed]; rfl
    obtain ⟨ν1, e1, B1⟩ := sw_sg h (by omega) (48 + x / 10)
    obtain ⟨ν2, e2, B2⟩ := sw_sg B1 (by rw [List.length_append]; show xs.length + 1 < 120; omega) (48 + x % 10)
    refine ⟨ν2, ?_, ?_⟩
    · unfold mo_figures mo_figures_J17
      rw [if_neg (fun h => by have := hle.mp h; omega), n2, e1, pb_b1, n1, e2, pb_b1]
    · have : xs ++ ss_dg x = xs ++ [48 + x / 10] ++ [48 + x % 10] := by rw [ed, List.append_assoc]; rfl
      rw [this]
      exact B2
/-- the Model's text of a chain -/
theorem sw_m {N : pn_N} (hm : pn_m (μ.2 5) N) (hN : pn_ok N) {s D n : Nat} {K L : Nat → Nat} (hs : s < pn_P N) (hn : n ≤ 10) (hK : ca_ok N L s D n K) (h9 : μ.1 9 = nI n) (h14 : ∀ t, t < n → μ.2 14 t = nI (K t)) {j : Int32} (hj : (-1 : Int32) ≤ j) : ∃ ν, dx_b1 (mo_figures (mo_I μ 10 (0 : Int32)) (nI s)) (fun σ4 => dx_lp (fun x : Int32 × mo_S => mo_written_L52 x.2 j x.1) dx_fu ((0 : Int32), σ4)) = some (su_s (su_x N s K n) j, ν) ∧ (∀ k, k ≠ 10 → ν.1 k = μ.1 k) ∧ (∀ k, k ≠ 15 → ν.2 k = μ.2 k) := by
  have hC := hN.2.1
  have hP := hN.1
  have B0 : sw_B μ (mo_I μ 10 (0 : Int32)) [] := ⟨fun k hk => by show upd μ.1 10 (0 : Int32) k = _; unfold upd; rw [if_neg hk], fun k hk => rfl, nI_0.symm, fun i b hb => by simp at hb⟩
  have sd := (su_dl (x := s)).2.2 (by omega)
  obtain ⟨ν4, e4, B4⟩ := sw_fg B0 (x := s) (by omega) (by show 0 + _ ≤ 120; omega)
  rw [e4, pb_b1]
  have hKr : ∀ t, t < n → K t / 2 < 10 ∧ ca_w N (K t) < 10 := by
    intro t ht
    have a := (hK t ht).1
    have b := (ca_rg hN a).1
    omega
  have hloop := pb_cnti (b := fun x : Int32 × mo_S => mo_written_L52 x.2 j x.1) (fun t (x : mo_S) => (nI t, x)) (fun t x => sw_B μ x (su_x N s K t)) n (fun z => z.1 = su_s (su_x N s K n) j ∧ (∀ k, k ≠ 10 → z.2.1 k = μ.1 k) ∧ (∀ k, k ≠ 15 → z.2.2 k = μ.2 k)) (fun t ht x hx => ?_) (fun x hx => ?_) dx_fu (by unfold dx_fu; omega) ν4 B4
  · obtain ⟨⟨r, ν⟩, hz, z1, z2, z3⟩ := hloop
    replace z1 : r = su_s (su_x N s K n) j := z1
    subst z1
    rw [nI_0] at hz
    exact ⟨ν, hz, z2, z3⟩
  · obtain ⟨k1, k2, k3, k4⟩ := hK t ht
    obtain ⟨g1, g2, g3, -⟩ := ca_rg hN k1
    have hlen := su_xl (N := N) (s := s) (K := K) (by omega) t (fun t' ht' => hKr t' (by omega))
    obtain ⟨w1, w2⟩ := hKr t ht
    have l1 := (su_dl (x := K t / 2)).2.2 w1
    have l2 := (su_dl (x := ca_d N (K t))).1
    have l3 := (su_dl (x := ca_w N (K t))).2.2 w2
    have h20 : nI (K t) / (2 : Int32) = nI (K t / 2) ∧ nI (K t) - nI (K t) / (2 : Int32) * (2 : Int32) = nI (K t % 2) := cm_20 ⟨K t, by omega⟩
    obtain ⟨sg, hsg⟩ : ∃ sg, sg = (if K t % 2 = 1 then 62 else 60) := ⟨_, rfl⟩
    obtain ⟨x1, x2, x3, x4⟩ := hx
    have x9 : x.1 9 = nI n := by rw [x1 9 (by decide)]; exact h9
    have x14 : x.2 14 t = nI (K t) := by rw [x2 14 (by decide)]; exact h14 t ht
    obtain ⟨y1, e1, B1⟩ := sw_sg (μ := μ) (ν := x) ⟨x1, x2, x3, x4⟩ (by omega) sg
    obtain ⟨y2, e2, B2⟩ := sw_fg B1 (x := K t / 2) (by omega) (by rw [List.length_append]; show _ + 1 + _ ≤ 120; omega)
    obtain ⟨y3, e3, B3⟩ := sw_sg B2 (by rw [List.length_append, List.length_append]; show _ + 1 + _ < 120; omega) 64
    have m3 : pn_m (y3.2 5) N := by rw [B3.2.1 5 (by decide)]; exact hm
    have d3 := (m3.2.2.2.2.2 (K t / 2) (by omega)).2.2
    have d3' : y3.2 5 (24 + 3 * (K t / 2)) = nI (ca_d N (K t)) := d3
    obtain ⟨y4, e4', B4'⟩ := sw_fg B3 (x := ca_d N (K t)) (by omega) (by rw [List.length_append, List.length_append, List.length_append]; show _ + 1 + _ + 1 + _ ≤ 120; omega)
    obtain ⟨y5, e5, B5⟩ := sw_sg B4' (by rw [List.length_append, List.length_append, List.length_append, List.length_append]; show _ + 1 + _ + 1 + _ < 120; omega) 58
    have m5 : pn_m (y5.2 5) N := by rw [B5.2.1 5 (by decide)]; exact hm
    have y14 : y5.2 14 t = nI (K t) := by rw [B5.2.1 14 (by decide)]; exact h14 t ht
    obtain ⟨wa, wb⟩ := cm_who m5 hN (c := K t / 2) (by omega)
    have hw : mo_whoOf y5 (nI (K t / 2)) (nI (K t % 2)) = some (nI (ca_w N (K t))) := by
      unfold ca_w
      by_cases h0 : K t % 2 = 0
      · rw [if_pos h0, h0]
        exact wa
      · rw [if_neg h0, show K t % 2 = 1 by omega]
        exact wb
    obtain ⟨y6, e6, B6⟩ := sw_fg B5 (x := ca_w N (K t)) (by omega) (by rw [List.length_append, List.length_append, List.length_append, List.length_append, List.length_append]; show _ + 1 + _ + 1 + _ + 1 + _ ≤ 120; omega)
    refine ⟨y6, ?_, ?_⟩
    · have : su_x N s K (t + 1) = su_x N s K t ++ [sg] ++ ss_dg (K t / 2) ++ [64] ++ ss_dg (ca_d N (K t)) ++ [58] ++ ss_dg (ca_w N (K t)) := by
        show su_x N s K t ++ su_p N (K t) = _
        unfold su_p
        rw [← hsg]
        simp only [List.append_assoc]
      rw [this]
      exact B6
    · show mo_written_L52 x j (nI t) = some (.inl (nI (t + 1), y6))
      have hle : ¬ nI n ≤ nI t := fun h => absurd ((pb_le (by omega) (by omega)).mp h) (by omega)
      have J : mo_written_J93 x j (nI t) (nI (K t / 2)) (nI sg) = some (.inl (nI (t + 1), y6)) := by
        unfold mo_written_J93
        have c64 : (64 : Int32) = nI 64 := rfl
        have c58 : (58 : Int32) = nI 58 := rfl
        rw [e1, pb_b1, e2, pb_b1, c64, e3, pb_b1, pn_i22, pn_i24, pn_gdi _ (by omega) (by omega), nI_clamp (by omega), d3', e4', pb_b1, c58, e5, pb_b1, pn_gdi _ (by omega) (by omega), nI_clamp (by omega), y14, h20.2, hw, pb_b1, e6, pb_b1, ← nI_succ]
      unfold mo_written_L52
      rw [x9, if_neg hle, pn_gdi _ (by omega) (by omega), pn_gdi _ (by omega) (by omega), nI_clamp (by omega), x14, h20.2, h20.1]
      by_cases h1 : K t % 2 = 1
      · rw [if_pos (by rw [h1]; rfl)]
        rw [if_pos h1] at hsg
        rw [hsg] at J
        exact J
      · rw [if_neg (by rw [show K t % 2 = 0 by omega]; decide)]
        rw [if_neg h1] at hsg
        rw [hsg] at J
        exact J
  · obtain ⟨x1, x2, x3, x4⟩ := hx
    have x9 : x.1 9 = nI n := by rw [x1 9 (by decide)]; exact h9
    have hlen := su_xl (N := N) (s := s) (K := K) (by omega) n hKr
    refine ⟨(su_s (su_x N s K n) j, x), ?_, rfl, x1, x2⟩
    show mo_written_L52 x j (nI n) = _
    unfold mo_written_L52 su_s
    rw [x9, if_pos ((pb_le (by omega) (by omega)).mpr (Nat.le_refl _)), x3]
    by_cases h1 : j = (-1 : Int32)
    · rw [if_pos h1, if_pos h1]
      rfl
    · rw [if_neg h1, if_neg h1]
      obtain ⟨i, hi, rfl⟩ := pb_of (cg_k hj h1)
      by_cases hle : nI (su_x N s K n).length ≤ nI i
      · rw [if_pos hle, if_pos hle]
        rfl
      · have hlt : i < (su_x N s K n).length := by
          refine Nat.lt_of_not_le fun h => hle ?_
          exact (pb_le (by omega) hi).mpr h
        rw [if_neg hle, if_neg hle, pn_gdi _ (by omega) hi, nI_clamp hi, x4 i _ (List.getElem?_eq_getElem hlt), List.getElem?_eq_getElem hlt]
        rfl
end SW
section SWW
variable {σ : cl_S} {μ : mo_S} {S : pa_S}
theorem sw_written (h : pc_R σ S) (hm : pm_R μ S) (v d w k : Int32) : pq_res (cl_X0_written 19 σ v d w k) (mo_written μ v d w k) S := by
  have hN := h.2.2.1.2
  have hP9 := hN.1
  have bad : pq_res (some ((-1000001 : Int32), σ)) (some ((-1000001 : Int32), μ)) S := ⟨_, _, _, rfl, rfl, h, hm⟩
  obtain ⟨x0, x1, x2, x3, x4, x5, x6, x7, x8⟩ := h.1.2.1
  obtain ⟨c0, -⟩ := h.1.2.2.2.1
  unfold cl_X0_written mo_written
  rw [pb_gdD _ x0, pt_cA h, pt_mF hm, pq_mP hm]
  simp only [pb_b1]
  cases hv : pq_in v 0 (nI (pn_P (pa_net S)) - 1) with
  | false => exact bad
  | true =>
    cases hd : pq_in d 0 (nI 30) with
    | false => exact bad
    | true =>
      cases hw : pq_in w 0 (nI (pn_P (pa_net S)) - 1) with
      | false => exact bad
      | true =>
        simp only [Bool.true_and, pb_ibT]
        obtain ⟨s, hs, rfl⟩ := (pq_lt (by omega)).mp hv
        obtain ⟨D, hD, rfl⟩ := (pq_le (by omega)).mp hd
        obtain ⟨p, hp, rfl⟩ := (pq_lt (by omega)).mp hw
        by_cases hk : (-1 : Int32) ≤ k
        · rw [if_pos hk, if_pos hk, x6, x3, pb_gdD _ (by decide), pb_gdD _ (by decide), pb_gdD _ c0]
          obtain ⟨b, σ', μ', hy, hz, hR, hM, hb⟩ := cg_both h hm hs hp hD
          rw [hy, hz, pb_b2, pb_b2]
          cases b with
          | false => exact ⟨_, _, _, rfl, rfl, hR, hM⟩
          | true =>
            obtain ⟨n, K, L, hn, hok, y7, z9, ht⟩ := hb rfl
            obtain ⟨u0, -, -, u3, -, -, u6, -⟩ := hR.1.2.1
            obtain ⟨v0, -⟩ := hR.1.2.2.2.1
            obtain ⟨o, θ, cap, eo, ho, B⟩ := sv_written hR rfl hs hn hok y7 (fun t h => (ht t h).2.1)
            obtain ⟨ν, eν, n1, n2⟩ := sw_m hM.1 hN hs hn hok z9 (fun t h => (ht t h).2.2) hk
            rw [pb_ibT, pb_ibT, pb_gdD _ u0, u6, pb_gdD _ (by decide), u3, pb_gdD _ (by decide), pb_gdD _ v0, eo, pb_b2, pb_gdD _ ho, su_sign B hk, pb_b1]
            refine ⟨_, _, _, rfl, eν, pc_R_sc B.1 (fun _ _ h => h.elim) (fun _ _ h => h.elim) hR, pm_R_fr (μ := μ') (fun k hk => n1 k (by unfold pm_i at hk; omega)) (fun k hk => n2 k (by unfold pm_a at hk; omega)) hM⟩
        · rw [if_neg hk, if_neg hk]
          exact bad
end SWW
