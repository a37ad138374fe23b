/-! chains: the Model's table, the Model's chain -/
theorem cm_20 : ∀ k : Fin 20, nI k.val / (2 : Int32) = nI (k.val / 2) ∧ nI k.val - nI k.val / (2 : Int32) * (2 : Int32) = nI (k.val % 2) := by decide +kernel
theorem cm_dec {d : Nat} (h : 0 < d) : nI d + (-1 : Int32) = nI (d - 1) := by
  have e1 : nI d = nI (d - 1) + (1 : Int32) := by
    rw [← nI_succ]
    congr 1
    omega
  have e2 : (1 : Int32) + (-1 : Int32) = 0 := by decide
  rw [e1, Int32.add_assoc, e2, Int32.add_zero]
section CM
variable {μ : mo_S} {N : pn_N} {L : Nat → Nat} {p q e c : Nat}
theorem cm_mp (hm : pn_m (μ.2 5) N) (hN : pn_ok N) (hq : q < pn_P N) {d : Nat} (he : e ≤ 31) (hd : d ≤ 31) : mo_mayPass 5 μ (nI q) (nI e) (nI d) = some (pn_mp N q e d) := by
  by_cases hle : e ≤ d
  · exact pn_m_mp rfl hm hN hq hle hd
  · obtain ⟨g1, g2, g3, g4, g5, g6, g7⟩ := pn_kdb hN hq
    obtain ⟨w0, w1⟩ := pn_m_wo (k0 := 5) rfl hm hN hq
    have b1 : pn_lw N q ≤ 10 := by unfold pn_lw; split <;> omega
    have hf : pn_mp N q e d = false := by
      unfold pn_mp
      exact decide_eq_false (by omega)
    unfold mo_mayPass
    rw [dx_b1_eq _ w0, hf]
    by_cases h4 : pn_kd N q < 4
    · rw [if_pos h4]
      have hne : ¬ nI (pn_lw N q) = (-1000000 : Int32) := pr_nN (by omega)
      rw [if_neg hne, if_pos]
      rw [Int32.lt_iff_toInt_lt, nI_toInt (by omega), Int32.toInt_sub, nI_toInt (by omega), nI_toInt (by omega)]
      have hb : ((d : Int) - (e : Int)).bmod (2 ^ 32) = (d : Int) - e := by apply Int.bmod_eq_of_le <;> omega
      rw [hb]
      omega
    · rw [if_neg h4, if_pos rfl]
theorem cm_who (hm : pn_m (μ.2 5) N) (hN : pn_ok N) (hc : c < pn_C N) : mo_whoOf μ (nI c) (nI 0) = some (nI (pn_a N c)) ∧ mo_whoOf μ (nI c) (nI 1) = some (nI (pn_b N c)) := by
  have hC := hN.2.1
  obtain ⟨m1, m2, m3⟩ := hm.2.2.2.2.2 c hc
  unfold mo_whoOf
  rw [pn_i22, pb_add, pb_add, pn_gdi _ (by omega) (by omega), pn_gdi _ (by omega) (by omega), nI_clamp (by omega), nI_clamp (by omega)]
  have e1 : 22 + 3 * c + 0 = 22 + 3 * c := by omega
  have e2 : 22 + 3 * c + 1 = 23 + 3 * c := by omega
  rw [e1, e2, m1, m2]
  exact ⟨rfl, rfl⟩
theorem cm_g (hm : pn_m (μ.2 5) N) (hN : pn_ok N) (hq : q < pn_P N) (he : e ≤ 31) (hc : c < pn_C N) {w : Int32} {g t : Nat} (h1 : mo_whoOf μ (nI c) ((1 : Int32) - w) = some (nI g)) (h2 : mo_whoOf μ (nI c) w = some (nI t)) (hg : g < pn_P N) (ht : t < pn_P N) : mo_mayGive μ (nI q) (nI e) (nI c) w = some (decide (g = q ∧ pn_kd N t ≠ 5) && pn_mp N q e (pn_d N c)) := by
  have hP := hN.1
  have hC := hN.2.1
  obtain ⟨-, -, -, c4⟩ := hN.2.2.2.2 c hc
  obtain ⟨-, -, m3⟩ := hm.2.2.2.2.2 c hc
  unfold mo_mayGive
  rw [h1, pb_b1]
  by_cases hgq : g = q
  · obtain ⟨-, -, -, -, -, hk1, hk2⟩ := pn_kdb hN ht
    rw [if_pos (by rw [hgq]), h2, pb_b1, pn_i4, pn_gdi _ (by omega) (by omega), nI_clamp (by omega), (hm.2.2.2.2.1 t ht).1]
    by_cases h5 : pn_kd N t = 5
    · rw [if_pos (by rw [h5]; rfl)]
      simp [h5]
    · have n5 : ¬ nI (pn_kd N t) = (5 : Int32) := fun h => h5 ((pb_inj (b := 5) (by omega) (by omega)).mp h)
      rw [if_neg n5, pn_i22, pn_i24, pn_gdi _ (by omega) (by omega), nI_clamp (by omega), m3, cm_mp hm hN hq he (by omega), pb_b1]
      cases pn_mp N q e (pn_d N c) <;> simp [hgq, h5, dx_ib]
  · rw [if_neg (fun h => hgq ((pb_inj (by omega) (by omega)).mp h))]
    simp [hgq]
theorem cm_mg (hm : pn_m (μ.2 5) N) (hN : pn_ok N) (hq : q < pn_P N) (he : e ≤ 31) (hc : c < pn_C N) {w : Nat} (hw : w < 2) : mo_mayGive μ (nI q) (nI e) (nI c) (nI w) = some (ca_m N q e (2 * c + w)) := by
  obtain ⟨c1, c2, c3, c4⟩ := hN.2.2.2.2 c hc
  obtain ⟨w0, w1⟩ := cm_who hm hN hc
  have hw2 : w = 0 ∨ w = 1 := by omega
  have a1 : (1 : Int32) - nI 0 = nI 1 := by decide
  have a2 : (1 : Int32) - nI 1 = nI 0 := by decide
  unfold ca_m ca_g ca_w ca_d
  rcases hw2 with rfl | rfl
  · rw [cm_g hm hN hq he hc (by rw [a1]; exact w1) w0 c2 c1, if_pos (by omega), if_pos (by omega), show (2 * c + 0) / 2 = c by omega]
  · rw [cm_g hm hN hq he hc (by rw [a2]; exact w0) w1 c1 c2, if_neg (by omega), if_neg (by omega), show (2 * c + 1) / 2 = c by omega]
/-- what stands in the table -/
def cm_L (N : pn_N) (ν : mo_S) (L : Nat → Nat) : Prop := ∀ k, k < 2 * pn_C N → ν.2 13 k = nI (L k) ∧ L k ≤ 1000
theorem cm_few (hm : pn_m (μ.2 5) N) (hN : pn_ok N) (hq : q < pn_P N) (he : e ≤ 31) (hL : cm_L N μ L) (hp : p < pn_P N) : mo_fewest μ (nI q) (nI e) (nI p) = some (nI (ca_f N L p q e)) := by
  have hP := hN.1
  have hC := hN.2.1
  have hFb : ∀ n, pb_fold (ca_fg N L q e) (ca_b0 p q) n ≤ 1000 := by
    intro n
    have h1 := (ca_fold N L q e (ca_b0 p q) n).1
    have h2 : ca_b0 p q ≤ 1000 := by unfold ca_b0; split <;> omega
    omega
  have inner : ∀ c, c < pn_C N → dx_lp (fun x : Int32 × Int32 => mo_fewest_L31 μ (nI q) (nI e) (nI c) x.1 x.2) dx_fu (nI (pb_fold (ca_fg N L q e) (ca_b0 p q) (2 * c)), (0 : Int32)) = some (.inl (nI (pb_fold (ca_fg N L q e) (ca_b0 p q) (2 * (c + 1))), nI (c + 1))) := by
    intro c hc
    rw [← nI_0]
    refine pb_lp (b := fun x : Int32 × Int32 => mo_fewest_L31 μ (nI q) (nI e) (nI c) x.1 x.2) 2 (fun i => (nI (pb_fold (ca_fg N L q e) (ca_b0 p q) (2 * c + i)), nI i)) (fun i hi => ?_) ?_ (by omega)
    · show mo_fewest_L31 μ (nI q) (nI e) (nI c) (nI (pb_fold (ca_fg N L q e) (ca_b0 p q) (2 * c + i))) (nI i) = some (.inl (nI (pb_fold (ca_fg N L q e) (ca_b0 p q) (2 * c + i + 1)), nI (i + 1)))
      obtain ⟨l1, l2⟩ := hL (2 * c + i) (by omega)
      have hF := hFb (2 * c + i)
      have e1 : pb_fold (ca_fg N L q e) (ca_b0 p q) (2 * c + i + 1) = if ca_its N L q e (2 * c + i) < pb_fold (ca_fg N L q e) (ca_b0 p q) (2 * c + i) then ca_its N L q e (2 * c + i) else pb_fold (ca_fg N L q e) (ca_b0 p q) (2 * c + i) := rfl
      have h2 : ¬ (2 : Int32) ≤ nI i := fun h => absurd ((pb_le (a := 2) (by omega) (by omega)).mp h) (by omega)
      have e2 : (2 : Int32) * nI c + nI i = nI (2 * c + i) := by rw [pl_2, pb_mul, pb_add]
      have key : ∀ v, v ≤ 1001 → ca_its N L q e (2 * c + i) = v → mo_fewest_J70 μ (nI q) (nI e) (nI (pb_fold (ca_fg N L q e) (ca_b0 p q) (2 * c + i))) (nI c) (nI i) (nI v) = some (.inl (nI (pb_fold (ca_fg N L q e) (ca_b0 p q) (2 * c + i + 1)), nI (i + 1))) := by
        intro v hv hi
        unfold mo_fewest_J70
        rw [e1, hi, ← nI_succ]
        by_cases hlt : v < pb_fold (ca_fg N L q e) (ca_b0 p q) (2 * c + i)
        · rw [if_pos hlt, if_neg (fun h => absurd ((pb_le (by omega) (by omega)).mp h) (by omega))]
        · rw [if_neg hlt, if_pos ((pb_le (by omega) (by omega)).mpr (by omega))]
      unfold mo_fewest_L31
      rw [if_neg h2, cm_mg hm hN hq he hc hi, pb_b1, e2, pn_gdi _ (by omega) (by omega), nI_clamp (by omega), l1, pl_1, pb_add]
      by_cases hmm : ca_m N q e (2 * c + i) = true
      · rw [hmm, pb_ibT]
        refine key (1 + L (2 * c + i)) (by omega) ?_
        unfold ca_its
        rw [if_pos hmm]
      · have hmf : ca_m N q e (2 * c + i) = false := by simpa using hmm
        rw [hmf, pb_ibF]
        refine key 1000 (by omega) ?_
        unfold ca_its
        rw [if_neg hmm]
    · show mo_fewest_L31 μ (nI q) (nI e) (nI c) (nI (pb_fold (ca_fg N L q e) (ca_b0 p q) (2 * c + 2))) (nI 2) = _
      unfold mo_fewest_L31
      rw [if_pos (by decide), ← nI_succ]
      rfl
  have outer : dx_lp (fun x : Int32 × Int32 => mo_fewest_L17 μ (nI q) (nI e) x.1 x.2) dx_fu (nI (ca_b0 p q), (0 : Int32)) = some (nI (ca_f N L p q e)) := by
    rw [← nI_0]
    refine pb_lp (b := fun x : Int32 × Int32 => mo_fewest_L17 μ (nI q) (nI e) x.1 x.2) (pn_C N) (fun i => (nI (pb_fold (ca_fg N L q e) (ca_b0 p q) (2 * i)), nI i)) (fun i hi => ?_) ?_ (by omega)
    · show mo_fewest_L17 μ (nI q) (nI e) (nI (pb_fold (ca_fg N L q e) (ca_b0 p q) (2 * i))) (nI i) = some (.inl (nI (pb_fold (ca_fg N L q e) (ca_b0 p q) (2 * (i + 1))), nI (i + 1)))
      unfold mo_fewest_L17
      rw [show (1 : Int32).toNatClampNeg = 1 by decide, hm.2.1, if_neg (fun h => absurd ((pb_le (by omega) (by omega)).mp h) (by omega))]
      exact inner i hi
    · show mo_fewest_L17 μ (nI q) (nI e) (nI (pb_fold (ca_fg N L q e) (ca_b0 p q) (2 * pn_C N))) (nI (pn_C N)) = _
      unfold mo_fewest_L17
      rw [show (1 : Int32).toNatClampNeg = 1 by decide, hm.2.1, if_pos ((pb_le (by omega) (by omega)).mpr (Nat.le_refl _))]
      rfl
  unfold mo_fewest
  by_cases hqp : q = p
  · rw [if_pos (by rw [hqp])]
    have : ca_b0 p q = 0 := if_pos hqp
    rw [this, nI_0] at outer
    exact outer
  · rw [if_neg (fun h => hqp ((pb_inj (by omega) (by omega)).mp h))]
    have : ca_b0 p q = 1000 := if_neg hqp
    rw [this] at outer
    exact outer
/-- only the table has changed -/
def cm_o (μ ν : mo_S) : Prop := ν.1 = μ.1 ∧ ∀ k, k ≠ 13 → ν.2 k = μ.2 k
theorem cm_o_A {μ ν : mo_S} (h : cm_o μ ν) (i : Nat) (v : Int32) : cm_o μ (mo_A ν 13 i v) := by
  refine ⟨h.1, fun k hk => ?_⟩
  show va_up ν.2 13 (upd (ν.2 13) i v) k = _
  rw [va_up_ne _ _ hk]
  exact h.2 k hk
theorem cm_A13 (ν : mo_S) (i : Nat) (v : Int32) (j : Nat) : (mo_A ν 13 i v).2 13 j = if j = i then v else ν.2 13 j := by
  show va_up ν.2 13 (upd (ν.2 13) i v) 13 j = _
  rw [va_up_self]
  rfl
/-- the fewest are the same by tables that are the same behind that day -/
theorem ca_f_c (hN : pn_ok N) {L L' : Nat → Nat} (h : ∀ k, k < 2 * pn_C N → e < ca_d N k → L' k = L k) : ca_f N L' p q e = ca_f N L p q e := by
  have key : ∀ n, n ≤ 2 * pn_C N → pb_fold (ca_fg N L' q e) (ca_b0 p q) n = pb_fold (ca_fg N L q e) (ca_b0 p q) n := by
    intro n
    induction n with
    | zero => intro _; rfl
    | succ n ih =>
      intro hn
      show ca_fg N L' q e n (pb_fold (ca_fg N L' q e) (ca_b0 p q) n) = ca_fg N L q e n (pb_fold (ca_fg N L q e) (ca_b0 p q) n)
      rw [ih (by omega)]
      have e1 : ca_its N L' q e n = ca_its N L q e n := by
        unfold ca_its
        by_cases hmm : ca_m N q e n = true
        · rw [if_pos hmm, if_pos hmm, h n (by omega) (ca_lt hN (by omega) hmm).1]
        · rw [if_neg hmm, if_neg hmm]
      unfold ca_fg
      rw [e1]
  exact key _ (Nat.le_refl _)
/-- the table while day d is gone through: right behind d, and up to half k on d -/
def cm_J (μ : mo_S) (N : pn_N) (p d k : Nat) (ν : mo_S) : Prop := cm_o μ ν ∧ ∃ L, cm_L N ν L ∧ ca_T N L p d ∧ ∀ j, j < k → j < 2 * pn_C N → ca_d N j = d → L j = ca_f N L p (ca_w N j) d
theorem cm_J_skip {ν : mo_S} {d : Nat} (h : cm_J μ N p d (2 * c) ν) (hc : pn_d N c ≠ d) : cm_J μ N p d (2 * (c + 1)) ν := by
  obtain ⟨h1, L, h2, h3, h4⟩ := h
  refine ⟨h1, L, h2, h3, fun j hj hj2 hd => ?_⟩
  by_cases hlt : j < 2 * c
  · exact h4 j hlt hj2 hd
  · have : j / 2 = c := by omega
    unfold ca_d at hd
    rw [this] at hd
    exact absurd hd hc
theorem cm_53 (hm : pn_m (μ.2 5) N) (hN : pn_ok N) (hp : p < pn_P N) {ν : mo_S} {d : Nat} (hd : d ≤ 30) (v1 v2 : Int32) (hc : c < pn_C N) (h : cm_J μ N p d (2 * c) ν) : ∃ ν', dx_lp (fun x : Int32 × mo_S => mo_isLinked_L53 x.2 v1 v2 (nI p) (nI d) (nI c) x.1) dx_fu ((0 : Int32), ν) = some (.inl (nI (c + 1), ν')) ∧ cm_J μ N p d (2 * (c + 1)) ν' := by
  have hP := hN.1
  have hC := hN.2.1
  obtain ⟨c1, c2, c3, c4⟩ := hN.2.2.2.2 c hc
  have m5 : ∀ {ν : mo_S}, cm_o μ ν → pn_m (ν.2 5) N := fun h => by rw [h.2 5 (by decide)]; exact hm
  by_cases hdc : pn_d N c = d
  · have key := pb_cnti (b := fun x : Int32 × mo_S => mo_isLinked_L53 x.2 v1 v2 (nI p) (nI d) (nI c) x.1) (fun i s => (nI i, s)) (fun i s => cm_J μ N p d (2 * c + i) s) 2 (fun z => ∃ ν', z = .inl (nI (c + 1), ν') ∧ cm_J μ N p d (2 * (c + 1)) ν') (fun i hi s hs => ?_) (fun s hs => ?_) dx_fu (by decide) ν h
    · obtain ⟨z, hz, ν', rfl, h'⟩ := key
      rw [nI_0] at hz
      exact ⟨ν', hz, h'⟩
    · obtain ⟨o1, L, l1, l2, l3⟩ := hs
      have hm5 := m5 o1
      have h2 : ¬ (2 : Int32) ≤ nI i := fun h => absurd ((pb_le (a := 2) (by omega) (by omega)).mp h) (by omega)
      have e2 : (2 : Int32) * nI c + nI i = nI (2 * c + i) := by rw [pl_2, pb_mul, pb_add]
      have hw : mo_whoOf s (nI c) (nI i) = some (nI (ca_w N (2 * c + i))) := by
        obtain ⟨w0, w1⟩ := cm_who hm5 hN hc
        unfold ca_w
        have : i = 0 ∨ i = 1 := by omega
        rcases this with rfl | rfl
        · rw [w0, if_pos (by omega), show (2 * c + 0) / 2 = c by omega]
        · rw [w1, if_neg (by omega), show (2 * c + 1) / 2 = c by omega]
      have hwP : ca_w N (2 * c + i) < pn_P N := (ca_rg hN (k := 2 * c + i) (by omega)).1
      obtain ⟨F, hF⟩ : ∃ F, F = ca_f N L p (ca_w N (2 * c + i)) d := ⟨_, rfl⟩
      have hF1000 : F ≤ 1000 := by rw [hF]; exact ca_f_le
      have hkd : ca_d N (2 * c + i) = d := by unfold ca_d; rw [show (2 * c + i) / 2 = c by omega]; exact hdc
      refine ⟨mo_A s 13 (2 * c + i) (nI F), ⟨cm_o_A o1 _ _, va_up L (2 * c + i) F, fun k hk => ?_, fun k hk hlt => ?_, fun j hj hj2 hjd => ?_⟩, ?_⟩
      · rw [cm_A13]
        by_cases hkk : k = 2 * c + i
        · rw [if_pos hkk, hkk, va_up_self]
          exact ⟨rfl, hF1000⟩
        · rw [if_neg hkk, va_up_ne _ _ hkk]
          exact l1 k hk
      · have hkk : k ≠ 2 * c + i := fun h => by rw [h] at hlt; omega
        rw [va_up_ne _ _ hkk, l2 k hk hlt]
        refine (ca_f_c hN fun j hj hlt2 => ?_).symm
        exact va_up_ne _ _ (fun h => by rw [h] at hlt2; omega)
      · have hcc : ca_f N (va_up L (2 * c + i) F) p (ca_w N j) d = ca_f N L p (ca_w N j) d := by
          refine ca_f_c hN fun j' hj' hlt2 => ?_
          exact va_up_ne _ _ (fun h => by rw [h] at hlt2; omega)
        rw [hcc]
        by_cases hjj : j = 2 * c + i
        · rw [hjj, va_up_self]
          exact hF
        · rw [va_up_ne _ _ hjj]
          exact l3 j (by omega) hj2 hjd
      · show mo_isLinked_L53 s v1 v2 (nI p) (nI d) (nI c) (nI i) = some (.inl (nI (i + 1), mo_A s 13 (2 * c + i) (nI F)))
        unfold mo_isLinked_L53
        rw [if_neg h2, pn_i22, pn_i24, pn_gdi _ (by omega) (by omega), nI_clamp (by omega), (hm5.2.2.2.2.2 c hc).2.2, hdc, if_pos rfl, hw, pb_b1, cm_few hm5 hN hwP (by omega) l1 hp, pb_b1, e2, pn_gdi _ (by omega) (by omega), nI_clamp (by omega), ← nI_succ, hF]
    · refine ⟨.inl (nI (c + 1), s), ?_, s, rfl, hs⟩
      show mo_isLinked_L53 s v1 v2 (nI p) (nI d) (nI c) (nI 2) = _
      unfold mo_isLinked_L53
      rw [if_pos (by decide), ← nI_succ]
      rfl
  · refine ⟨ν, ?_, cm_J_skip h hdc⟩
    have hm5 := m5 h.1
    rw [← nI_0]
    refine pb_lp (b := fun x : Int32 × mo_S => mo_isLinked_L53 x.2 v1 v2 (nI p) (nI d) (nI c) x.1) 0 (fun _ => (nI 0, ν)) (fun i hi => by omega) ?_ (by omega)
    show mo_isLinked_L53 ν v1 v2 (nI p) (nI d) (nI c) (nI 0) = _
    unfold mo_isLinked_L53
    rw [if_neg (by decide), pn_i22, pn_i24, pn_gdi _ (by omega) (by omega), nI_clamp (by omega), (hm5.2.2.2.2.2 c hc).2.2, if_neg (fun h => hdc ((pb_inj (by omega) (by omega)).mp h)), ← nI_succ]
    rfl
theorem cm_39 (hm : pn_m (μ.2 5) N) (hN : pn_ok N) (hp : p < pn_P N) {ν : mo_S} {d : Nat} (hd : d ≤ 30) (hd1 : 0 < d) (v1 v2 : Int32) (h : cm_J μ N p d 0 ν) : ∃ ν', dx_lp (fun x : Int32 × mo_S => mo_isLinked_L39 x.2 v1 v2 (nI p) (nI d) x.1) dx_fu ((0 : Int32), ν) = some (.inl (nI (d - 1), ν')) ∧ cm_J μ N p (d - 1) 0 ν' := by
  have hC := hN.2.1
  have m5 : ∀ {ν : mo_S}, cm_o μ ν → pn_m (ν.2 5) N := fun h => by rw [h.2 5 (by decide)]; exact hm
  have key := pb_cnti (b := fun x : Int32 × mo_S => mo_isLinked_L39 x.2 v1 v2 (nI p) (nI d) x.1) (fun i s => (nI i, s)) (fun i s => cm_J μ N p d (2 * i) s) (pn_C N) (fun z => ∃ ν', z = .inl (nI (d - 1), ν') ∧ cm_J μ N p (d - 1) 0 ν') (fun i hi s hs => ?_) (fun s hs => ?_) dx_fu (by unfold dx_fu; omega) ν h
  · obtain ⟨z, hz, ν', rfl, h'⟩ := key
    rw [nI_0] at hz
    exact ⟨ν', hz, h'⟩
  · obtain ⟨s', e1, h'⟩ := cm_53 hm hN hp hd v1 v2 hi hs
    refine ⟨s', h', ?_⟩
    show mo_isLinked_L39 s v1 v2 (nI p) (nI d) (nI i) = some (.inl (nI (i + 1), s'))
    unfold mo_isLinked_L39
    rw [show (1 : Int32).toNatClampNeg = 1 by decide, (m5 hs.1).2.1, if_neg (fun h => absurd ((pb_le (by omega) (by omega)).mp h) (by omega))]
    exact e1
  · refine ⟨.inl (nI (d - 1), s), ?_, s, rfl, ?_⟩
    · show mo_isLinked_L39 s v1 v2 (nI p) (nI d) (nI (pn_C N)) = _
      unfold mo_isLinked_L39
      have e1 : nI d + (-1 : Int32) = nI (d - 1) := cm_dec hd1
      rw [show (1 : Int32).toNatClampNeg = 1 by decide, (m5 hs.1).2.1, if_pos ((pb_le (by omega) (by omega)).mpr (Nat.le_refl _)), e1]
      rfl
    · obtain ⟨o1, L, l1, l2, l3⟩ := hs
      refine ⟨o1, L, l1, fun k hk hlt => ?_, fun j hj => absurd hj (Nat.not_lt_zero j)⟩
      by_cases hdd : ca_d N k = d
      · rw [hdd]
        exact l3 k hk hk hdd
      · exact l2 k hk (by omega)
end CM
/-! the pure chain exists -/
theorem ca_ex {N : pn_N} {L : Nat → Nat} {p s D n : Nat} (hN : pn_ok N) (hT : ca_T N L p D) (hs : s < pn_P N) (hD : D ≤ 30) (hn : ca_f N L p s D = n) (hn2 : n < 1000) : ∃ K, ca_ok N L s D n K ∧ ∀ t, t ≤ n → ca_f N L p (ca_q N s K t) (ca_e N D K t) = n - t ∧ ca_q N s K t < pn_P N ∧ ca_e N D K t ≤ 30 ∧ D ≤ ca_e N D K t := by
  have key : ∀ m, m ≤ n → ∃ K, (∀ t, t < m → K t < 2 * pn_C N ∧ ca_m N (ca_q N s K t) (ca_e N D K t) (K t) = true ∧ L (K t) = n - 1 - t ∧ ∀ k, k < K t → ¬ (ca_m N (ca_q N s K t) (ca_e N D K t) k = true ∧ L k = n - 1 - t)) ∧ ∀ t, t ≤ m → ca_f N L p (ca_q N s K t) (ca_e N D K t) = n - t ∧ ca_q N s K t < pn_P N ∧ ca_e N D K t ≤ 30 ∧ D ≤ ca_e N D K t := by
    intro m
    induction m with
    | zero =>
      intro _
      refine ⟨fun _ => 0, fun t ht => absurd ht (Nat.not_lt_zero t), fun t ht => ?_⟩
      have : t = 0 := by omega
      subst this
      exact ⟨hn, hs, hD, Nat.le_refl _⟩
    | succ m ih =>
      intro hm
      obtain ⟨K, k1, k2⟩ := ih (by omega)
      obtain ⟨f1, f2, f3, f4⟩ := k2 m (Nat.le_refl _)
      have hq : ca_q N s K m ≠ p := by
        intro h
        rw [h, ca_f_0] at f1
        omega
      obtain ⟨k0, hk0, hm0, hv0⟩ := ca_f_x (L := L) (e := ca_e N D K m) (N := N) hq (by omega)
      have least : ∃ k, (k < 2 * pn_C N ∧ ca_m N (ca_q N s K m) (ca_e N D K m) k = true ∧ L k = n - 1 - m) ∧ ∀ k', k' < k → ¬ (ca_m N (ca_q N s K m) (ca_e N D K m) k' = true ∧ L k' = n - 1 - m) := by
        have aux : ∀ k, k < 2 * pn_C N → ca_m N (ca_q N s K m) (ca_e N D K m) k = true → L k = n - 1 - m → ∃ k, (k < 2 * pn_C N ∧ ca_m N (ca_q N s K m) (ca_e N D K m) k = true ∧ L k = n - 1 - m) ∧ ∀ k', k' < k → ¬ (ca_m N (ca_q N s K m) (ca_e N D K m) k' = true ∧ L k' = n - 1 - m) := by
          intro k
          induction k using Nat.strongRecOn with
          | ind k ihk =>
            intro a1 a2 a3
            by_cases hex : ∃ k', k' < k ∧ ca_m N (ca_q N s K m) (ca_e N D K m) k' = true ∧ L k' = n - 1 - m
            · obtain ⟨k', b1, b2, b3⟩ := hex
              exact ihk k' b1 (by omega) b2 b3
            · exact ⟨k, ⟨a1, a2, a3⟩, fun k' hk' hh => hex ⟨k', hk', hh⟩⟩
        exact aux k0 hk0 hm0 (by omega)
      obtain ⟨k, ⟨a1, a2, a3⟩, a4⟩ := least
      have up : ∀ t, t < m → va_up K m k t = K t := fun t ht => va_up_ne _ _ (by omega)
      have uq : ∀ t, t ≤ m → ca_q N s (va_up K m k) t = ca_q N s K t ∧ ca_e N D (va_up K m k) t = ca_e N D K t := by
        intro t ht
        cases t with
        | zero => exact ⟨rfl, rfl⟩
        | succ t =>
          refine ⟨?_, ?_⟩
          · show ca_w N (va_up K m k t) = ca_w N (K t)
            rw [up t (by omega)]
          · show ca_d N (va_up K m k t) = ca_d N (K t)
            rw [up t (by omega)]
      refine ⟨va_up K m k, fun t ht => ?_, fun t ht => ?_⟩
      · rw [(uq t (by omega)).1, (uq t (by omega)).2]
        by_cases htm : t = m
        · subst htm
          rw [va_up_self]
          exact ⟨a1, a2, a3, a4⟩
        · rw [up t (by omega)]
          exact k1 t (by omega)
      · by_cases htm : t = m + 1
        · subst htm
          have e1 : ca_q N s (va_up K m k) (m + 1) = ca_w N k := by
            show ca_w N (va_up K m k m) = _
            rw [va_up_self]
          have e2 : ca_e N D (va_up K m k) (m + 1) = ca_d N k := by
            show ca_d N (va_up K m k m) = _
            rw [va_up_self]
          rw [e1, e2]
          have hr := ca_rg hN a1
          have hlt := ca_lt hN a1 a2
          rw [← hT k a1 (by omega)]
          exact ⟨by omega, hr.1, hr.2.2.1, by omega⟩
        · rw [(uq t (by omega)).1, (uq t (by omega)).2]
          exact k2 t (by omega)
  obtain ⟨K, k1, k2⟩ := key n (Nat.le_refl _)
  exact ⟨K, k1, k2⟩
