/-! chains: the Model's isLinked -/
/-- what the Model answers, and what it leaves -/
def cn_P (N : pn_N) (μ : mo_S) (p s D : Nat) (L : Nat → Nat) (z : Bool × mo_S) : Prop := ca_T N L p D ∧ (∀ k, k ≠ 9 → z.2.1 k = μ.1 k) ∧ (∀ k, k ≠ 13 → k ≠ 14 → z.2.2 k = μ.2 k) ∧ ((z.1 = false ∧ ¬ ca_f N L p s D < 1000) ∨ (z.1 = true ∧ ca_f N L p s D < 1000 ∧ ∃ K, ca_ok N L s D (ca_f N L p s D) K ∧ z.2.1 9 = nI (ca_f N L p s D) ∧ ∀ t, t < ca_f N L p s D → z.2.2 14 t = nI (K t)))
section CN
variable {μ : mo_S} {N : pn_N} {L : Nat → Nat} {p s D : Nat}
theorem cn_153 {ν : mo_S} (hm : pn_m (ν.2 5) N) (hN : pn_ok N) (hs : s < pn_P N) (hD : D ≤ 30) (hL : cm_L N ν L) (hT : ca_T N L p D) (hf : ca_f N L p s D < 1000) : ∃ z, dx_lp (fun x : Int32 × Int32 × Int32 × mo_S => mo_isLinked_L153 x.2.2.2 x.1 x.2.1 x.2.2.1) dx_fu (nI (ca_f N L p s D), nI s, nI D, mo_I ν 9 (0 : Int32)) = some z ∧ (z.1 = true ∧ (∀ k, k ≠ 9 → z.2.1 k = ν.1 k) ∧ (∀ k, k ≠ 14 → z.2.2 k = ν.2 k) ∧ ∃ K, ca_ok N L s D (ca_f N L p s D) K ∧ z.2.1 9 = nI (ca_f N L p s D) ∧ ∀ t, t < ca_f N L p s D → z.2.2 14 t = nI (K t)) := by
  obtain ⟨n, hn⟩ : ∃ n, ca_f N L p s D = n := ⟨_, rfl⟩
  have hP := hN.1
  have hC := hN.2.1
  have h10 := ca_10 hN hT (Nat.le_refl D) hf
  obtain ⟨K, hK, hK2⟩ := ca_ex hN hT hs hD hn (by omega)
  rw [hn] at h10 ⊢
  have key := pb_cnti (b := fun x : Int32 × Int32 × Int32 × mo_S => mo_isLinked_L153 x.2.2.2 x.1 x.2.1 x.2.2.1) (fun t (x : mo_S) => (nI (n - t), nI (ca_q N s K t), nI (ca_e N D K t), x)) (fun t x => x.1 9 = nI t ∧ (∀ k, k ≠ 9 → x.1 k = ν.1 k) ∧ (∀ k, k ≠ 14 → x.2 k = ν.2 k) ∧ ∀ t', t' < t → x.2 14 t' = nI (K t')) n (fun z => z.1 = true ∧ (∀ k, k ≠ 9 → z.2.1 k = ν.1 k) ∧ (∀ k, k ≠ 14 → z.2.2 k = ν.2 k) ∧ z.2.1 9 = nI n ∧ ∀ t, t < n → z.2.2 14 t = nI (K t)) (fun t ht x hx => ?_) (fun x hx => ?_) dx_fu (by unfold dx_fu; omega) (mo_I ν 9 (0 : Int32)) ⟨nI_0.symm, fun k hk => ?_, fun _ _ => rfl, fun t ht => absurd ht (Nat.not_lt_zero t)⟩
  · obtain ⟨z, hz, a1, a2, a3, a4, a5⟩ := key
    exact ⟨z, hz, a1, a2, a3, K, hK, a4, a5⟩
  · obtain ⟨x1, x2, x3, x4⟩ := hx
    obtain ⟨f1, f2, f3, f4⟩ := hK2 t (by omega)
    obtain ⟨k1, k2, k3, k4⟩ := hK t ht
    have hm5 : pn_m (x.2 5) N := by rw [x3 5 (by decide)]; exact hm
    have hL13 : ∀ k, k < 2 * pn_C N → x.2 13 k = nI (L k) ∧ L k ≤ 1000 := fun k hk => by rw [x3 13 (by decide)]; exact hL k hk
    obtain ⟨x', hx'⟩ : ∃ x', x' = mo_I (mo_A x 14 t (nI (K t))) 9 (nI (t + 1)) := ⟨_, rfl⟩
    have x'5 : pn_m (x'.2 5) N := by
      rw [hx']
      show pn_m (va_up x.2 14 (upd (x.2 14) t (nI (K t))) 5) N
      rw [va_up_ne _ _ (by decide)]
      exact hm5
    refine ⟨x', ⟨?_, fun k hk => ?_, fun k hk => ?_, fun t' ht' => ?_⟩, ?_⟩
    · rw [hx']
      rfl
    · rw [hx']
      show upd x.1 9 (nI (t + 1)) k = _
      unfold upd
      rw [if_neg hk]
      exact x2 k hk
    · rw [hx']
      show va_up x.2 14 (upd (x.2 14) t (nI (K t))) k = _
      rw [va_up_ne _ _ hk]
      exact x3 k hk
    · rw [hx']
      show va_up x.2 14 (upd (x.2 14) t (nI (K t))) 14 t' = _
      rw [va_up_self]
      unfold upd
      by_cases htt : t' = t
      · rw [if_pos htt, htt]
      · rw [if_neg htt]
        exact x4 t' (by omega)
    · show mo_isLinked_L153 x (nI (n - t)) (nI (ca_q N s K t)) (nI (ca_e N D K t)) = some (.inl (nI (n - (t + 1)), nI (ca_w N (K t)), nI (ca_d N (K t)), x'))
      have hpos : ¬ nI (n - t) ≤ (0 : Int32) := by
        rw [← nI_0]
        exact fun h => absurd ((pb_le (by omega) (by omega)).mp h) (by omega)
      have hmin : nI (n - t) - (1 : Int32) = nI (n - 1 - t) := by
        rw [pl_1, pb_sub (by omega)]
        congr 1
        omega
      have hmg : ∀ k, k < 2 * pn_C N → mo_mayGive x (nI (ca_q N s K t)) (nI (ca_e N D K t)) (nI k / (2 : Int32)) (nI k - nI k / (2 : Int32) * (2 : Int32)) = some (ca_m N (ca_q N s K t) (ca_e N D K t) k) := by
        intro k hk
        have h20 : nI k / (2 : Int32) = nI (k / 2) ∧ nI k - nI k / (2 : Int32) * (2 : Int32) = nI (k % 2) := cm_20 ⟨k, by omega⟩
        rw [h20.2, h20.1]
        have := cm_mg hm5 hN f2 (by omega : ca_e N D K t ≤ 31) (c := k / 2) (by omega) (w := k % 2) (by omega)
        rw [this]
        congr 2
        omega
      unfold mo_isLinked_L153
      rw [if_neg hpos, ← nI_0]
      refine pb_lp (b := fun y : Int32 => mo_isLinked_L161 x (nI (n - t)) (nI (ca_q N s K t)) (nI (ca_e N D K t)) y) (K t) (fun i => nI i) (fun i hi => ?_) ?_ (by omega)
      · show mo_isLinked_L161 x (nI (n - t)) (nI (ca_q N s K t)) (nI (ca_e N D K t)) (nI i) = some (.inl (nI (i + 1)))
        unfold mo_isLinked_L161
        rw [hmg i (by omega), pb_b1, pn_gdi _ (by omega) (by omega), nI_clamp (by omega), (hL13 i (by omega)).1, hmin, ← nI_succ]
        by_cases hmm : ca_m N (ca_q N s K t) (ca_e N D K t) i = true
        · rw [hmm, pb_ibT, if_neg]
          intro h
          have hl := (hL13 i (by omega)).2
          exact k4 i hi ⟨hmm, (pb_inj (by omega) (by omega)).mp h⟩
        · have hmf : ca_m N (ca_q N s K t) (ca_e N D K t) i = false := by simpa using hmm
          rw [hmf, pb_ibF]
      · show mo_isLinked_L161 x (nI (n - t)) (nI (ca_q N s K t)) (nI (ca_e N D K t)) (nI (K t)) = _
        have h20 : nI (K t) / (2 : Int32) = nI (K t / 2) ∧ nI (K t) - nI (K t) / (2 : Int32) * (2 : Int32) = nI (K t % 2) := cm_20 ⟨K t, by omega⟩
        unfold mo_isLinked_L161
        rw [hmg (K t) k1, pb_b1, k2, pb_ibT, pn_gdi _ (by omega) (by omega), nI_clamp (by omega), (hL13 (K t) k1).1, hmin, if_pos (by rw [k3]), x1, pn_gdi _ (by omega) (by omega), nI_clamp (by omega)]
        have e9 : (mo_A x 14 t (nI (K t))).1 9 = nI t := x1
        rw [e9, ← nI_succ, ← hx', h20.2, h20.1]
        obtain ⟨w0, w1⟩ := cm_who x'5 hN (c := K t / 2) (by omega)
        have hw : mo_whoOf x' (nI (K t / 2)) (nI (K t % 2)) = some (nI (ca_w N (K t))) := by
          unfold ca_w
          by_cases h0 : K t % 2 = 0
          · rw [if_pos h0, h0]
            exact w0
          · rw [if_neg h0, show K t % 2 = 1 by omega]
            exact w1
        have hd3 := (x'5.2.2.2.2.2 (K t / 2) (by omega)).2.2
        rw [hw, pb_b1, pn_i22, pn_i24, pn_gdi _ (by omega) (by omega), nI_clamp (by omega), hd3, cm_dec (by omega)]
        rfl
  · obtain ⟨x1, x2, x3, x4⟩ := hx
    refine ⟨(true, x), ?_, rfl, x2, x3, x1, x4⟩
    show mo_isLinked_L153 x (nI (n - n)) (nI (ca_q N s K n)) (nI (ca_e N D K n)) = _
    unfold mo_isLinked_L153
    rw [Nat.sub_self, if_pos (by decide)]
    rfl
  · show upd ν.1 9 (0 : Int32) k = _
    unfold upd
    rw [if_neg hk]
theorem cn_linked (hm : pn_m (μ.2 5) N) (hN : pn_ok N) (hs : s < pn_P N) (hp : p < pn_P N) (hD : D ≤ 30) : ∃ L z, mo_isLinked μ (nI s) (nI D) (nI p) = some z ∧ cn_P N μ p s D L z := by
  have hP := hN.1
  have hC := hN.2.1
  have h30 : ∀ x, cm_J μ N p 30 0 x → ∃ z, dx_lp (fun y : Int32 × mo_S => mo_isLinked_L30 y.2 (nI s) (nI D) (nI p) y.1) dx_fu (nI 30, x) = some z ∧ ∃ L, cn_P N μ p s D L z := by
    intro x hx
    have key := pb_cnti (b := fun y : Int32 × mo_S => mo_isLinked_L30 y.2 (nI s) (nI D) (nI p) y.1) (fun i (y : mo_S) => (nI (30 - i), y)) (fun i y => cm_J μ N p (30 - i) 0 y) (30 - D) (fun z => ∃ L, cn_P N μ p s D L z) (fun i hi y hy => ?_) (fun y hy => ?_) dx_fu (by unfold dx_fu; omega) x hx
    · exact key
    · obtain ⟨y', e1, h1⟩ := cm_39 hm hN hp (d := 30 - i) (by omega) (by omega) (nI s) (nI D) hy
      refine ⟨y', by rw [show 30 - (i + 1) = 30 - i - 1 by omega]; exact h1, ?_⟩
      show mo_isLinked_L30 y (nI s) (nI D) (nI p) (nI (30 - i)) = some (.inl (nI (30 - (i + 1)), y'))
      unfold mo_isLinked_L30
      rw [if_neg (fun h => absurd ((pb_le (by omega) (by omega)).mp h) (by omega)), show 30 - (i + 1) = 30 - i - 1 by omega]
      exact e1
    · rw [show 30 - (30 - D) = D by omega] at hy
      obtain ⟨⟨o1, o2⟩, L, l1, l2, -⟩ := hy
      have hm5 : pn_m (y.2 5) N := by rw [o2 5 (by decide)]; exact hm
      have hf := cm_few hm5 hN hs (by omega : D ≤ 31) l1 hp
      have hle : ca_f N L p s D ≤ 1000 := ca_f_le
      have goal : ∀ w : Option (Bool × mo_S), (∃ z, w = some z ∧ ∃ L, cn_P N μ p s D L z) → mo_isLinked_L30 y (nI s) (nI D) (nI p) (nI D) = dx_ex w → ∃ z, mo_isLinked_L30 y (nI s) (nI D) (nI p) (nI (30 - (30 - D))) = some (.inr z) ∧ ∃ L, cn_P N μ p s D L z := by
        intro w hw he
        obtain ⟨z, hz, hzP⟩ := hw
        refine ⟨z, ?_, hzP⟩
        rw [show 30 - (30 - D) = D by omega, he, hz]
        rfl
      refine goal (if nI (ca_f N L p s D) < (1000 : Int32) then (dx_lp (fun x : Int32 × Int32 × Int32 × mo_S => mo_isLinked_L153 x.2.2.2 x.1 x.2.1 x.2.2.1) dx_fu (nI (ca_f N L p s D), nI s, nI D, mo_I y 9 (0 : Int32))) else (some (false, (mo_I y 9 (0 : Int32))))) ?_ ?_
      · have hlt : nI (ca_f N L p s D) < (1000 : Int32) ↔ ca_f N L p s D < 1000 := pb_lt (b := 1000) (by omega) (by omega)
        by_cases h1000 : ca_f N L p s D < 1000
        · rw [if_pos (hlt.mpr h1000)]
          obtain ⟨z, hz, a1, a2, a3, K, a4, a5, a6⟩ := cn_153 hm5 hN hs hD l1 l2 h1000
          exact ⟨z, hz, L, l2, fun k hk => (a2 k hk).trans (congrFun o1 k), fun k hk hk2 => (a3 k hk2).trans (o2 k hk), Or.inr ⟨a1, h1000, K, a4, a5, a6⟩⟩
        · rw [if_neg (fun h => h1000 (hlt.mp h))]
          refine ⟨_, rfl, L, l2, fun k hk => ?_, fun k hk hk2 => o2 k hk, Or.inl ⟨rfl, h1000⟩⟩
          show upd y.1 9 (0 : Int32) k = _
          unfold upd
          rw [if_neg hk]
          exact congrFun o1 k
      · unfold mo_isLinked_L30
        rw [if_pos ((pb_le (by omega) (by omega)).mpr (Nat.le_refl _)), hf, pb_b1]
  have key := pb_cnti (b := fun y : Int32 × mo_S => mo_isLinked_L3 y.2 (nI s) (nI D) (nI p) y.1) (fun i (y : mo_S) => (nI i, y)) (fun i y => cm_o μ y ∧ ∀ k, k < i → y.2 13 k = nI 1000) 20 (fun z => ∃ L, cn_P N μ p s D L z) (fun i hi y hy => ?_) (fun y hy => ?_) dx_fu (by unfold dx_fu; omega) μ ⟨⟨rfl, fun _ _ => rfl⟩, fun k hk => absurd hk (Nat.not_lt_zero k)⟩
  · obtain ⟨z, hz, L, hL⟩ := key
    rw [nI_0] at hz
    exact ⟨L, z, hz, hL⟩
  · obtain ⟨o1, o2⟩ := hy
    refine ⟨mo_A y 13 i (nI 1000), ⟨cm_o_A o1 _ _, fun k hk => ?_⟩, ?_⟩
    · rw [cm_A13]
      split
      · rfl
      · exact o2 k (by omega)
    · show mo_isLinked_L3 y (nI s) (nI D) (nI p) (nI i) = some (.inl (nI (i + 1), mo_A y 13 i (nI 1000)))
      unfold mo_isLinked_L3
      have h20 : ¬ (20 : Int32) ≤ nI i := fun h => absurd ((pb_le (a := 20) (by omega) (by omega)).mp h) (by omega)
      rw [if_neg h20, pn_gdi _ hi (by omega), nI_clamp (by omega), ← nI_succ]
      rfl
  · obtain ⟨o1, o2⟩ := hy
    obtain ⟨z, hz, hzP⟩ := h30 y ⟨o1, fun _ => 1000, fun k hk => ⟨o2 k (by omega), Nat.le_refl _⟩, fun k hk hlt => by have := (ca_rg hN hk).2.2.1; omega, fun j hj => absurd hj (Nat.not_lt_zero j)⟩
    refine ⟨z, ?_, hzP⟩
    show mo_isLinked_L3 y (nI s) (nI D) (nI p) (nI 20) = _
    unfold mo_isLinked_L3
    have e30 : (30 : Int32) = nI 30 := rfl
    rw [if_pos (by decide), e30, hz]
    rfl
end CN
