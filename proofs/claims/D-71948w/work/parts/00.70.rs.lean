/-! rows: helpers -/
def pa_sst (S : pa_S) (s : Int32) : pa_S := (S.1, S.2.1, S.2.2.1, S.2.2.2.1, (S.2.2.2.2.1.1, s), S.2.2.2.2.2)
def pa_srow (S : pa_S) (j : Nat) (r : Option (Nat × Nat × (Nat → Int32))) : pa_S := (S.1, S.2.1, va_up S.2.2.1 j r, S.2.2.2)
section RS
variable {σ : cl_S} {μ : mo_S} {S : pa_S}
theorem rs_st (h : pc_R σ S) (s : Int32) : pc_R (cl_wi σ 19 12 s) (pa_sst S s) := by
  have h' := h
  obtain ⟨-, -, -, p, -, -, tp, ⟨c1, c2, c3⟩, -⟩ := h
  exact pc_R_x h' (pa_sst S s) rfl rfl rfl rfl p ⟨tp.1, tp.2.1, tp.2.2⟩ ⟨c1, c2, rfl⟩
theorem rs_mst (hm : pm_R μ S) (s : Int32) : pm_R (mo_I μ 0 s) (pa_sst S s) := by
  obtain ⟨m1, m2, m3, m4, m5, m6, m7⟩ := hm
  exact ⟨m1, m2, m3, m4, m5, ⟨m6.1, rfl⟩, m7⟩
theorem rs_cw (h : pc_R σ S) (v : Int32) : cl_X0_well 19 σ v = some (v, cl_wi σ 19 12 0) := by
  unfold cl_X0_well
  rw [pb_gdD _ h.1.2.1.1]
theorem rs_cf (h : pc_R σ S) (v : Int32) : cl_X0_found 19 σ v = some ((-1000010 : Int32) - v, cl_wi σ 19 12 v) := by
  unfold cl_X0_found
  rw [pb_gdD _ h.1.2.1.1]
/-- both have found the same -/
theorem rs_found (h : pc_R σ S) (hm : pm_R μ S) (v : Int32) : pq_any (dx_b2 (cl_X0_found 19 σ v) fun r s => some (r, s)) (dx_b2 (mo_found μ v) fun r s => some (r, s)) := by
  rw [rs_cf h]
  exact ⟨pa_sst S v, _, _, _, rfl, rfl, rs_st h v, rs_mst hm v⟩
theorem rs_well (h : pc_R σ S) (hm : pm_R μ S) (v : Int32) : pq_any (dx_b2 (cl_X0_well 19 σ v) fun r s => some (r, s)) (dx_b2 (mo_well μ v) fun r s => some (r, s)) := by
  rw [rs_cw h]
  exact ⟨pa_sst S 0, _, _, _, rfl, rfl, rs_st h 0, rs_mst hm 0⟩
theorem rs_20 (h : pc_R σ S) : cl_k σ 19 = 0 ∧ cl_r σ 19 0 = 20 ∧ cl_k σ 20 = 24 ∧ cl_l σ 20 = 8 ∧ ∀ j, j < 8 → cl_r σ 20 j = 21 + j ∧ cl_k σ (21 + j) = 1 := by
  obtain ⟨⟨-, ⟨x0, x1, -⟩, ⟨⟨r0, r1⟩, r2⟩, -⟩, -⟩ := h
  exact ⟨x0, x1, r0, r1, r2⟩
/-- a shelf holds another array, or none -/
theorem rs_set (h : pc_R σ S) {j x : Nat} (hj : j < 8) (hd : pd (cl_wr σ (21 + j) 0 x)) {r : Option (Nat × Nat × (Nat → Int32))} (hr : pr_row σ x r) : pc_R (cl_wr σ (21 + j) 0 x) (pa_srow S j r) := by
  obtain ⟨f, d, ⟨hN, hok⟩, ⟨p1, p2, p3⟩, im, rw_, tp, sc, tr⟩ := h
  have hn54 := f.1
  have hf := pc_fr_sr σ (21 + j) (va_up (cl_r σ (21 + j)) 0 x) (Z := pc_0) (Y := fun y => y = 21 + j) rfl
  have ap : ∀ o, 28 < o → pc_ap σ pc_0 (fun y => y = 21 + j) o := fun o ho => ⟨fun _ _ h => h.elim, fun y _ hy => by have : y = 21 + j := hy; omega⟩
  have rne : ∀ y, y ≠ 21 + j → cl_r (cl_wr σ (21 + j) 0 x) y = cl_r σ y := by
    intro y hy
    rw [pc_wr, pc_r_sr, if_neg hy]
  refine ⟨pf_fr hf (fun y hz => hz.elim) (fun y hy => by have : y = 21 + j := hy; omega) f, hd, ⟨pc_N_fr hf (ap 30 (by omega)) hok hN, hok⟩, ⟨fun i hi => ?_, p2, fun i hi => ?_⟩, fun i hi => ?_, fun i hi => ?_, tp, sc, ?_⟩
  · rw [rne 53 (by omega)]
    rcases p1 i hi with q | q
    · exact Or.inl q
    · have : 54 < cl_r σ 53 i := by
        have := (pm_lo d (by omega : i < 27) (by rw [pd_p hi]; have := q.1.1; omega)).1
        rw [pd_p hi] at this
        exact this
      exact Or.inr (pc_sh_fr hf (fun hy => by have : cl_r σ 53 i = 21 + j := hy; omega) q)
  · rw [rne 53 (by omega)]
    obtain ⟨g1, g2, g3⟩ := p3 i hi
    have hq2 : pa_acts S ≤ 16 := p2
    have hi2 : i < pa_acts S := hi
    have : 54 < cl_r σ 53 i := by
      have hj16 : i < 16 := by omega
      have := (pm_lo d (by omega : i < 27) (by rw [pd_p hj16]; exact g1)).1
      rw [pd_p hj16] at this
      exact this
    exact ⟨g1, pc_N_fr hf (ap _ (by omega)) g3 g2, g3⟩
  · rw [rne 54 (by omega)]
    rcases im i hi with q | ⟨N', g1, g2, g3, g4⟩
    · exact Or.inl q
    · have : 54 < cl_r σ 54 i := by
        have := (pm_lo d (by omega : 16 + i < 27) (by rw [pd_i hi]; exact g2)).1
        rw [pd_i hi] at this
        exact this
      exact Or.inr ⟨N', g1, g2, pc_N_fr hf (ap _ (by omega)) g4 g3, g4⟩
  · show pr_row (cl_wr σ (21 + j) 0 x) (cl_r (cl_wr σ (21 + j) 0 x) (21 + i) 0) (va_up S.2.2.1 j r i)
    by_cases hij : i = j
    · subst hij
      rw [va_up_self, pc_wr, pc_r_sr, if_pos rfl, va_up_self]
      exact hr
    · rw [va_up_ne _ _ hij, rne _ (by omega)]
      exact rw_ i hi
  · unfold pr_tr
    rw [rne 19 (by omega)]
    obtain ⟨⟨u0, u1, u2, u3, u4⟩, u5, u6, u7⟩ := tr
    have : 54 < cl_r σ 19 11 := by
      have := (pm_lo d (by omega : 26 < 27) (by rw [pd_t]; exact u0)).1
      rw [pd_t] at this
      exact this
    refine ⟨⟨u0, u1, ?_, u3, u4⟩, u5, u6, u7⟩
    rw [rne _ (by omega)]
    exact u2
theorem rs_lo {j x : Nat} (hj : j < 8) : (∀ i, i < 27 → i ≠ 18 + j → pd_lo (cl_wr σ (21 + j) 0 x) i = pd_lo σ i) ∧ pd_lo (cl_wr σ (21 + j) 0 x) (18 + j) = x := by
  refine ⟨fun i hi hij => ?_, ?_⟩
  · unfold pd_lo
    rw [pc_wr]
    split
    · rw [pc_r_sr, if_neg (by omega)]
    · split
      · rw [pc_r_sr, if_neg (by omega)]
      · split
        · rw [pc_r_sr, if_neg (by omega)]
        · rw [pc_r_sr, if_neg (by omega)]
  · rw [pd_h hj, pc_wr, pc_r_sr, if_pos rfl, va_up_self]
theorem rs_nul (h : pc_R σ S) {j : Nat} (hj : j < 8) : pc_R (cl_wr σ (21 + j) 0 0) (pa_srow S j none) :=
  rs_set h hj (pd_nul h.2.1 (i := 18 + j) (rs_lo hj).1 (rs_lo hj).2 (Nat.le_refl _)) (Or.inl ⟨rfl, rfl⟩)
theorem rs_new (h : pc_R σ S) {j lane len : Nat} (hj : j < 8) (hl : lane ≤ 2) (hn : len ≤ 40) : pc_R (cl_wr (cl_nw σ (pr_lk lane) len) (21 + j) 0 (cl_n σ + 1)) (pa_srow S j (some (lane, len, fun _ => 0))) := by
  have h1 : pc_R (cl_nw σ (pr_lk lane) len) S := pc_R_sc (pc_fr_nw σ (pr_lk lane) len (Z := pc_0) (Y := pc_0)) (fun _ _ h => h.elim) (fun _ _ h => h.elim) h
  have e := (pd_fr (pc_fr_nw σ (pr_lk lane) len (Z := pc_0) (Y := pc_0)) h.1.1 (fun y hy => hy.elim) h.2.1).2
  refine rs_set h1 hj (pd_new h.2.1 (i := 18 + j) (by omega) h.1.1 (fun i hi hij => ((rs_lo hj).1 i hi hij).trans (e i hi)) (rs_lo hj).2 ?_) ?_
  · show _ ≤ cl_n σ + 1
    unfold pd_sz
    rw [if_neg (by omega), if_pos (by omega)]
    omega
  · refine Or.inr ⟨lane, len, fun _ => 0, rfl, hl, hn, by omega, ?_, ?_, fun i hi => ⟨?_, ?_⟩⟩
    · rw [pc_k_nw, if_pos rfl]
    · rw [pc_l_nw, if_pos rfl]
    · rw [pc_i_nw, if_pos rfl]
    · show pr_fit lane 0
      unfold pr_fit pr_lk
      have : lane = 0 ∨ lane = 1 ∨ lane = 2 := by omega
      rcases this with rfl | rfl | rfl <;> decide
/-- what an array on a shelf holds is written -/
theorem rs_int2 (h : pc_R σ S) {j lane len : Nat} (hj : j < 8) {f g gA : Nat → Int32} (hr : pa_row S j = some (lane, len, f)) (hg : ∀ i, i < len → g i = gA i ∧ pr_fit lane (gA i)) : pc_R (cl_si σ (cl_r σ (21 + j) 0) g) (pa_srow S j (some (lane, len, gA))) := by
  have h' := h
  obtain ⟨f0, d, ⟨hN, hok⟩, ⟨p1, p2, p3⟩, im, rw_, tp, ⟨c1, c2, c3⟩, tr⟩ := h
  have hrow := rw_ j hj
  rcases hrow with ⟨q, -⟩ | ⟨lane', len', f', q1, q2, q3, q4, q5, q6, q7⟩
  · rw [hr] at q; cases q
  · rw [hr] at q1
    cases q1
    obtain ⟨x, hx⟩ : ∃ x, x = cl_r σ (21 + j) 0 := ⟨_, rfl⟩
    rw [← hx] at q4 q5 q6 q7 ⊢
    have hp := pd_h (σ := σ) hj
    have hnp : ¬ pc_pw σ x := by
      unfold pc_pw
      rw [q5]
      unfold pr_lk
      split
      · omega
      · split <;> omega
    have key := pm_rg (pc_fr_si σ x g (Z := fun y => y = x) (Y := pc_0) rfl) (i := 18 + j) (by omega) (by rw [hp, ← hx]; exact q4) (fun y hy hz => ?_) (fun y hy hz => hz.elim) h'
    · obtain ⟨f', d', e, n30, pa, img, rows, ⟨i19, i29, r53, r54, r19, r21⟩, tr'⟩ := key
      refine ⟨f', d', ⟨n30, hok⟩, ⟨fun i hi => ?_, p2, fun i hi => ?_⟩, fun i hi => ?_, fun i hi => ?_, ⟨tp.1, by rw [i19]; exact tp.2.1, fun j hj => by rw [i29]; exact tp.2.2 j hj⟩, ⟨by rw [i19]; exact c1, by rw [i19]; exact c2, by rw [i19]; exact c3⟩, tr' (by omega)⟩
      · rw [r53]
        rcases p1 i hi with q | q
        · exact Or.inl q
        · exact Or.inr ((pa i hi (by omega) (by have := q.1.1; omega)).1 q)
      · rw [r53]
        obtain ⟨u1, u2, u3⟩ := p3 i hi
        have hp2 : pa_acts S ≤ 16 := p2
        have hj2 : i < pa_acts S := hi
        exact ⟨u1, (pa i (by omega) (by omega) u1).2 _ u3 u2, u3⟩
      · rw [r54]
        rcases im i hi with q | ⟨N', u1, u2, u3, u4⟩
        · exact Or.inl q
        · exact Or.inr ⟨N', u1, u2, img i hi (by omega) u2 N' u4 u3, u4⟩
      · rw [r21 i hi]
        show pr_row _ _ (va_up S.2.2.1 j (some (lane, len, gA)) i)
        by_cases hij : i = j
        · subst hij
          rw [va_up_self, ← hx]
          refine Or.inr ⟨lane, len, gA, rfl, q2, q3, q4, q5, q6, fun i hi => ⟨?_, (hg i hi).2⟩⟩
          rw [pc_i_si_s]
          exact (hg i hi).1
        · rw [va_up_ne _ _ hij]
          exact rows i hi (by omega)
    · right
      have hy' : y = x := hz
      rw [hy']
      exact ⟨⟨by rw [hp, ← hx]; omega, by rw [hp, ← hx]; omega⟩, hnp⟩
theorem rs_int (h : pc_R σ S) {j lane len : Nat} (hj : j < 8) {f g : Nat → Int32} (hr : pa_row S j = some (lane, len, f)) (hg : ∀ i, i < len → g i = g i ∧ pr_fit lane (g i)) : pc_R (cl_si σ (cl_r σ (21 + j) 0) g) (pa_srow S j (some (lane, len, g))) := rs_int2 h hj hr hg
end RS
