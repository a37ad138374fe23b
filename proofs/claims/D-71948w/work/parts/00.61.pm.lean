/-! writes to one of what lies apart; what is kept ahead of an act -/
theorem pm_lo {σ : cl_S} (d : pd σ) {i : Nat} (hi : i < 27) (h0 : pd_lo σ i ≠ 0) : 54 < pd_lo σ i ∧ pd_lo σ i + pd_sz i ≤ cl_n σ := by
  rcases d.1 i hi with q | q
  · exact absurd q h0
  · exact q
section PM
variable {σ σ' : cl_S} {Z Y : Nat → Prop} {S : pa_S}
theorem pm_rg (h : pc_fr σ σ' Z Y) {i : Nat} (hi : i < 27) (h0 : pd_lo σ i ≠ 0) (hz : ∀ y, y ≤ cl_n σ → Z y → (37 ≤ y ∧ y ≤ 52) ∨ (pd_in σ i y ∧ ¬ pc_pw σ y)) (hy : ∀ y, y ≤ cl_n σ → Y y → (38 ≤ y ∧ y ≤ 43) ∨ pd_in σ i y) (hR : pc_R σ S) :
    pf σ' ∧ pd σ' ∧ (∀ j, j < 27 → pd_lo σ' j = pd_lo σ j) ∧ pc_N σ' 30 (pa_net S) ∧
    (∀ j, j < 16 → j ≠ i → cl_r σ 53 j ≠ 0 → (pc_sh σ (cl_r σ 53 j) → pc_sh σ' (cl_r σ 53 j)) ∧ ∀ N, pn_ok N → pc_N σ (cl_r σ 53 j) N → pc_N σ' (cl_r σ 53 j) N) ∧
    (∀ j, j < 2 → 16 + j ≠ i → cl_r σ 54 j ≠ 0 → ∀ N, pn_ok N → pc_N σ (cl_r σ 54 j) N → pc_N σ' (cl_r σ 54 j) N) ∧
    (∀ j, j < 8 → 18 + j ≠ i → pr_row σ' (cl_r σ (21 + j) 0) (pa_row S j)) ∧
    (cl_i σ' 19 = cl_i σ 19 ∧ cl_i σ' 29 = cl_i σ 29 ∧ cl_r σ' 53 = cl_r σ 53 ∧ cl_r σ' 54 = cl_r σ 54 ∧ cl_r σ' 19 = cl_r σ 19 ∧ ∀ j, j < 8 → cl_r σ' (21 + j) = cl_r σ (21 + j)) ∧
    (26 ≠ i → pr_tr σ' (pa_tn S) (pa_tr S)) := by
  obtain ⟨f, d, ⟨hN, hok⟩, -, -, rw_, -, -, ⟨⟨u0, u1, u2, u3, u4⟩, u5, u6, u7⟩⟩ := hR
  have hn := f.1
  obtain ⟨li, lj⟩ := pm_lo d hi h0
  have h' := pc_fr_n h
  have zb : ∀ y, y ≤ cl_n σ → Z y → 37 ≤ y := by
    intro y h1 h2
    rcases hz y h1 h2 with q | q
    · omega
    · have := q.1.1; omega
  have yb : ∀ y, y ≤ cl_n σ → Y y → 38 ≤ y ∧ y ≠ 44 ∧ y ≠ 46 ∧ y ≠ 53 ∧ y ≠ 54 := by
    intro y h1 h2
    rcases hy y h1 h2 with q | q
    · omega
    · have := q.1; omega
  have f' : pf σ' := pf_fr h' (fun y hz' => by have := zb y hz'.1 hz'.2; omega) (fun y hy' => by have := yb y hy'.1 hy'.2; omega) f
  obtain ⟨d', e⟩ := pd_fr h' hn (fun y hy' => by have := yb y hy'.1 hy'.2; omega) d
  have Rr : ∀ y, y ≤ 54 → y < 38 ∨ 52 < y → cl_r σ' y = cl_r σ y := fun y h1 h2 => (h.2 y (by omega)).2.2.2 (fun hy' => by
    have := yb y (by omega) hy'
    rcases hy y (by omega) hy' with q | q
    · omega
    · have := q.1; omega)
  have Ir : ∀ y, y < 37 → cl_i σ' y = cl_i σ y := fun y h1 => (h.2 y (by omega)).2.2.1 (fun hz' => by have := zb y (by omega) hz'; omega)
  have ap : ∀ j, j < 18 → j ≠ i → pd_lo σ j ≠ 0 → pc_ap σ Z Y (pd_lo σ j) := by
    intro j hj hji hj0
    obtain ⟨m1, m2⟩ := pm_lo d (by omega : j < 27) hj0
    have hs : pd_sz j = 6 := by unfold pd_sz; rw [if_pos hj]
    refine ⟨fun y h1 h2 => ?_, fun y h1 h2 => ?_⟩
    · rcases hz y h1 h2 with q | q
      · exact ⟨by omega, pf_kd f (by omega) (by omega)⟩
      · refine ⟨fun hin => pd_ap d hi (by omega) (Ne.symm hji) h0 hj0 q.1 ⟨hin.1, by rw [hs]; exact hin.2⟩, q.2⟩
    · rcases hy y h1 h2 with q | q
      · omega
      · exact fun hin => pd_ap d hi (by omega) (Ne.symm hji) h0 hj0 q ⟨hin.1, by rw [hs]; exact hin.2⟩
  have ap30 : pc_ap σ Z Y 30 := by
    refine ⟨fun y h1 h2 => ?_, fun y h1 h2 => ?_⟩
    · have := zb y h1 h2
      rcases hz y h1 h2 with q | q
      · exact ⟨by omega, pf_kd f (by omega) (by omega)⟩
      · have := q.1.1
        exact ⟨by omega, q.2⟩
    · rcases hy y h1 h2 with q | q
      · omega
      · have := q.1; omega
  refine ⟨f', d', e, pc_N_fr h ap30 hok hN, fun j hj hji hj0 => ⟨fun hs => ?_, fun N hNo hNn => ?_⟩, fun j hj hji hj0 N hNo hNn => ?_, fun j hj hji => ?_, ⟨Ir 19 (by omega), Ir 29 (by omega), Rr 53 (by omega) (by omega), Rr 54 (by omega) (by omega), Rr 19 (by omega) (by omega), fun j hj => Rr (21 + j) (by omega) (by omega)⟩, fun h26 => ?_⟩
  · have hp := pd_p (σ := σ) hj
    have a := ap j (by omega) hji (by rw [hp]; exact hj0)
    rw [hp] at a
    exact pc_sh_fr h (fun hy' => a.2 _ (by have := hs.1.2; omega) hy' ⟨by omega, by omega⟩) hs
  · have hp := pd_p (σ := σ) hj
    have a := ap j (by omega) hji (by rw [hp]; exact hj0)
    rw [hp] at a
    exact pc_N_fr h a hNo hNn
  · have hp := pd_i (σ := σ) hj
    have a := ap (16 + j) (by omega) hji (by rw [hp]; exact hj0)
    rw [hp] at a
    exact pc_N_fr h a hNo hNn
  · by_cases hj0 : cl_r σ (21 + j) 0 = 0
    · have q := rw_ j hj
      rw [hj0] at q ⊢
      rcases q with q | ⟨_, _, _, _, _, _, q, _⟩
      · exact Or.inl q
      · exact absurd rfl q
    · have hp := pd_h (σ := σ) hj
      have hlo0 : pd_lo σ (18 + j) ≠ 0 := by rw [hp]; exact hj0
      obtain ⟨m1, m2⟩ := pm_lo d (by omega : 18 + j < 27) hlo0
      have hs : pd_sz (18 + j) = 0 := by unfold pd_sz; rw [if_neg (by omega), if_pos (by omega)]
      rw [hs] at m2
      rw [hp] at m1 m2
      refine pr_row_fr h (by omega) (fun hz' => ?_) (rw_ j hj)
      rcases hz _ (by omega) hz' with q | q
      · omega
      · exact pd_ap d hi (by omega : 18 + j < 27) (Ne.symm hji) h0 hlo0 q.1 ⟨by rw [hp]; omega, by rw [hp]; omega⟩
  · have hp := pd_t (σ := σ)
    have hlo0 : pd_lo σ 26 ≠ 0 := by rw [hp]; exact u0
    obtain ⟨m1, m2⟩ := pm_lo d (by omega : 26 < 27) hlo0
    have hs : pd_sz 26 = 1 := rfl
    rw [hs] at m2
    rw [hp] at m1 m2
    have nz : ∀ y, cl_r σ 19 11 ≤ y → y ≤ cl_r σ 19 11 + 1 → ¬ Z y ∧ ¬ Y y := by
      intro y h1 h2
      have hin : pd_in σ 26 y := ⟨by rw [hp]; exact h1, by rw [hp, hs]; exact h2⟩
      refine ⟨fun hz' => ?_, fun hy' => ?_⟩
      · rcases hz _ (by omega) hz' with q | q
        · omega
        · exact pd_ap d hi (by omega : 26 < 27) (Ne.symm h26) h0 hlo0 q.1 hin
      · rcases hy _ (by omega) hy' with q | q
        · omega
        · exact pd_ap d hi (by omega : 26 < 27) (Ne.symm h26) h0 hlo0 q hin
    obtain ⟨a1, a2, a3, a4⟩ := h.2 (cl_r σ 19 11) (by omega)
    obtain ⟨b1, b2, b3, b4⟩ := h.2 (cl_r σ 19 11 + 1) (by omega)
    replace a3 := a3 (nz _ (by omega) (by omega)).1
    replace a4 := a4 (nz _ (by omega) (by omega)).2
    replace b3 := b3 (nz _ (by omega) (by omega)).1
    have R19 : cl_r σ' 19 = cl_r σ 19 := Rr 19 (by omega) (by omega)
    unfold pr_tr
    rw [R19]
    exact ⟨⟨u0, a1.trans u1, by rw [a4]; exact u2, b1.trans u3, b2.trans u4⟩, u5, by rw [a3]; exact u6, fun i hi => by rw [b3]; exact u7 i hi⟩
/-- one of the past is written -/
theorem pm_past (h : pc_fr σ σ' Z Y) {a : Nat} (ha : a < 16) (h0 : cl_r σ 53 a ≠ 0) (hz : ∀ y, y ≤ cl_n σ → Z y → (37 ≤ y ∧ y ≤ 52) ∨ (pd_in σ a y ∧ ¬ pc_pw σ y)) (hy : ∀ y, y ≤ cl_n σ → Y y → (38 ≤ y ∧ y ≤ 43) ∨ pd_in σ a y) (hR : pc_R σ S) (hn : a = pa_acts S) {N : pn_N} (hN : pc_N σ' (cl_r σ 53 a) N) (hok : pn_ok N) : pc_R (cl_si σ' 19 (upd (cl_i σ' 19) 9 (nI (a + 1)))) ((pa_net S, va_up (pa_past S) a N, a + 1), S.2) := by
  have hi : a < 27 := by omega
  have hp := pd_p (σ := σ) ha
  obtain ⟨f', d', e, n30, pa, im, rows, ⟨i19, i29, r53, r54, r19, r21⟩, tr⟩ := pm_rg h hi (by rw [hp]; exact h0) hz hy hR
  obtain ⟨-, -, ⟨-, hok30⟩, ⟨p1, p2, p3⟩, img, rw_, ⟨t1, t2, t3⟩, ⟨c1, c2, c3⟩, -⟩ := hR
  have R' : pc_R σ' ((pa_net S, va_up (pa_past S) a N, a), S.2) := by
    refine ⟨f', d', ⟨n30, hok30⟩, ⟨fun j hj => ?_, by show a ≤ 16; omega, fun j hj => ?_⟩, fun j hj => ?_, fun j hj => ?_, ⟨t1, by rw [i19]; exact t2, fun j hj => by rw [i29]; exact t3 j hj⟩, ⟨by rw [i19, c1, hn]; rfl, by rw [i19]; exact c2, by rw [i19]; exact c3⟩, tr (by omega)⟩
    · rw [r53]
      by_cases hja : j = a
      · rw [hja]; exact Or.inr hN.1
      · rcases p1 j hj with q | q
        · exact Or.inl q
        · exact Or.inr ((pa j hj hja (by have := q.1.1; omega)).1 q)
    · have hj' : j < a := hj
      show cl_r σ' 53 j ≠ 0 ∧ pc_N σ' (cl_r σ' 53 j) (va_up (pa_past S) a N j) ∧ pn_ok (va_up (pa_past S) a N j)
      rw [r53, va_up_ne _ _ (by omega)]
      obtain ⟨q1, q2, q3⟩ := p3 j (by omega)
      exact ⟨q1, (pa j (by omega) (by omega) q1).2 _ q3 q2, q3⟩
    · rw [r54]
      rcases img j hj with q | ⟨N', q1, q2, q3, q4⟩
      · exact Or.inl q
      · exact Or.inr ⟨N', q1, q2, im j hj (by omega) q2 N' q4 q3, q4⟩
    · rw [r21 j hj]
      exact rows j hj (by omega)
  refine pc_R_x R' _ rfl rfl rfl rfl ?_ ⟨t1, ?_, fun j hj => ?_⟩ ⟨rfl, ?_, ?_⟩
  · refine ⟨R'.2.2.2.1.1, by show a + 1 ≤ 16; omega, fun j hj => ?_⟩
    by_cases hja : j = a
    · show cl_r σ' 53 j ≠ 0 ∧ pc_N σ' (cl_r σ' 53 j) (va_up (pa_past S) a N j) ∧ pn_ok (va_up (pa_past S) a N j)
      rw [hja, r53, va_up_self]
      exact ⟨h0, hN, hok⟩
    · exact R'.2.2.2.1.2.2 j (by show j < a; have : j < a + 1 := hj; omega)
  · show upd (cl_i σ' 19) 9 _ 2 = _
    rw [i19]
    exact t2
  · show _ < 256 ∧ cl_i σ' 29 j &&& 255 = _
    rw [i29]
    exact t3 j hj
  · show upd (cl_i σ' 19) 9 _ 3 = _
    rw [i19]
    exact c2
  · show upd (cl_i σ' 19) 9 _ 12 = _
    rw [i19]
    exact c3
end PM
