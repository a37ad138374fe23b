/-! chains, breadth first: the queue -/
/-- what i gives by contact c stands among the first M -/
def cq_t (N : pn_N) (Qp Qe : Nat → Nat) (M i c : Nat) : Prop := ca_m N (Qp i) (Qe i) (ca_h N (Qp i) c) = true → ∃ j, j < M ∧ Qp j = ca_w N (ca_h N (Qp i) c) ∧ Qe j = pn_d N c
def cq_1 (N : pn_N) (Qp Qe Qf Qb : Nat → Nat) (j : Nat) : Prop := Qf j < j ∧ Qb j < pn_C N ∧ ca_m N (Qp (Qf j)) (Qe (Qf j)) (ca_h N (Qp (Qf j)) (Qb j)) = true ∧ Qp j = ca_w N (ca_h N (Qp (Qf j)) (Qb j)) ∧ Qe j = pn_d N (Qb j)
def cq_I (N : pn_N) (s D : Nat) (Qp Qe Qf Qb : Nat → Nat) (M i c : Nat) : Prop := (0 < M ∧ Qp 0 = s ∧ Qe 0 = D) ∧ (∀ j, 0 < j → j < M → cq_1 N Qp Qe Qf Qb j) ∧ (∀ j, 0 < j → j < M → ∀ i' c', c' < pn_C N → (i' < Qf j ∨ (i' = Qf j ∧ c' < Qb j)) → cq_t N Qp Qe j i' c') ∧ (∀ i' c', i' < M → c' < pn_C N → (i' < i ∨ (i' = i ∧ c' < c)) → cq_t N Qp Qe M i' c') ∧ (∀ j j', j < M → j' < M → Qp j = Qp j' → Qe j = Qe j' → j = j') ∧ (∀ j, j < M → Qp j < pn_P N ∧ Qe j ≤ 30 ∧ D ≤ Qe j)
section CQ
variable {N : pn_N} {s D : Nat} {Qp Qe Qf Qb : Nat → Nat} {M i c : Nat}
theorem cq_skip (h : cq_I N s D Qp Qe Qf Qb M i c) (ht : cq_t N Qp Qe M i c) : cq_I N s D Qp Qe Qf Qb M i (c + 1) := by
  obtain ⟨h0, h1, h2, h3, h4, h5⟩ := h
  refine ⟨h0, h1, h2, fun i' c' hi hc hlt => ?_, h4, h5⟩
  by_cases hh : i' = i ∧ c' = c
  · rw [hh.1, hh.2]
    exact ht
  · exact h3 i' c' hi hc (by omega)
theorem cq_next (h : cq_I N s D Qp Qe Qf Qb M i (pn_C N)) : cq_I N s D Qp Qe Qf Qb M (i + 1) 0 := by
  obtain ⟨h0, h1, h2, h3, h4, h5⟩ := h
  exact ⟨h0, h1, h2, fun i' c' hi hc hlt => h3 i' c' hi hc (by omega), h4, h5⟩
theorem cq_add (hN : pn_ok N) (h : cq_I N s D Qp Qe Qf Qb M i c) (hi : i < M) (hc : c < pn_C N) (hm : ca_m N (Qp i) (Qe i) (ca_h N (Qp i) c) = true) (hnew : ∀ j, j < M → ¬ (Qp j = ca_w N (ca_h N (Qp i) c) ∧ Qe j = pn_d N c)) : cq_I N s D (va_up Qp M (ca_w N (ca_h N (Qp i) c))) (va_up Qe M (pn_d N c)) (va_up Qf M i) (va_up Qb M c) (M + 1) i (c + 1) := by
  obtain ⟨h0, h1, h2, h3, h4, h5⟩ := h
  obtain ⟨t, ht⟩ : ∃ t, t = ca_w N (ca_h N (Qp i) c) := ⟨_, rfl⟩
  rw [← ht] at hnew ⊢
  have up : ∀ (f : Nat → Nat) (x j : Nat), j < M → va_up f M x j = f j := fun f x j hj => va_up_ne _ _ (by omega)
  have us : ∀ (f : Nat → Nat) (x : Nat), va_up f M x M = x := fun f x => va_up_self _ _ _
  have tt : ∀ {m i' c' : Nat}, m ≤ M → i' < M → cq_t N Qp Qe m i' c' → cq_t N (va_up Qp M t) (va_up Qe M (pn_d N c)) m i' c' := by
    intro m i' c' hmM hi' h
    unfold cq_t
    rw [up Qp t i' hi', up Qe _ i' hi']
    intro hh
    obtain ⟨j, hj, e1, e2⟩ := h hh
    exact ⟨j, hj, by rw [up Qp t j (by omega)]; exact e1, by rw [up Qe _ j (by omega)]; exact e2⟩
  have hlt := ca_lt hN (ca_h_lt hc) hm
  have hrg := ca_rg hN (k := ca_h N (Qp i) c) (ca_h_lt hc)
  rw [ca_h_d] at hlt hrg
  refine ⟨⟨by omega, by rw [up Qp t 0 h0.1]; exact h0.2.1, by rw [up Qe _ 0 h0.1]; exact h0.2.2⟩, fun j hj hjM => ?_, fun j hj hjM i' c' hc' hlt' => ?_, fun i' c' hi' hc' hlt' => ?_, fun j j' hj hj' e1 e2 => ?_, fun j hj => ?_⟩
  · by_cases hjm : j = M
    · subst hjm
      unfold cq_1
      rw [us, us, us, us, up Qp t i hi, up Qe _ i hi]
      exact ⟨hi, hc, hm, ht, rfl⟩
    · have hj' : j < M := by omega
      have a := h1 j hj hj'
      unfold cq_1 at a ⊢
      obtain ⟨a1, a2, a3, a4, a5⟩ := a
      rw [up Qf i j hj', up Qb c j hj', up Qp t j hj', up Qe _ j hj', up Qp t (Qf j) (by omega), up Qe _ (Qf j) (by omega)]
      exact ⟨a1, a2, a3, a4, a5⟩
  · by_cases hjm : j = M
    · subst hjm
      rw [us, us] at hlt'
      exact tt (Nat.le_refl _) (by omega) (h3 i' c' (by omega) hc' hlt')
    · have hj' : j < M := by omega
      rw [up Qf i j hj', up Qb c j hj'] at hlt'
      have a := (h1 j hj hj').1
      exact tt (by omega) (by omega) (h2 j hj hj' i' c' hc' hlt')
  · have hi2 : i' < M := by omega
    by_cases hh : i' = i ∧ c' = c
    · obtain ⟨rfl, rfl⟩ := hh
      unfold cq_t
      rw [up Qp t i' hi2, up Qe _ i' hi2]
      intro _
      exact ⟨M, by omega, by rw [us]; exact ht, us _ _⟩
    · have a := tt (Nat.le_refl M) hi2 (h3 i' c' hi2 hc' (by omega))
      unfold cq_t at a ⊢
      intro hh2
      obtain ⟨j, hj, e1, e2⟩ := a hh2
      exact ⟨j, by omega, e1, e2⟩
  · by_cases a : j = M
    · by_cases b : j' = M
      · omega
      · subst a
        rw [us, up Qp t j' (by omega)] at e1
        rw [us, up Qe _ j' (by omega)] at e2
        exact absurd ⟨e1.symm, e2.symm⟩ (hnew j' (by omega))
    · by_cases b : j' = M
      · subst b
        rw [us, up Qp t j (by omega)] at e1
        rw [us, up Qe _ j (by omega)] at e2
        exact absurd ⟨e1, e2⟩ (hnew j (by omega))
      · rw [up Qp t j (by omega), up Qp t j' (by omega)] at e1
        rw [up Qe _ j (by omega), up Qe _ j' (by omega)] at e2
        exact h4 j j' (by omega) (by omega) e1 e2
  · by_cases a : j = M
    · subst a
      rw [us, us]
      have := h5 i hi
      exact ⟨by rw [ht]; exact hrg.1, by omega, by omega⟩
    · rw [up Qp t j (by omega), up Qe _ j (by omega)]
      exact h5 j (by omega)
/-- no more than the places -/
theorem cq_M (hN : pn_ok N) (h : cq_I N s D Qp Qe Qf Qb M i c) : M ≤ 279 := by
  obtain ⟨h0, h1, h2, h3, h4, h5⟩ := h
  have hP := hN.1
  refine ca_ph 279 M (fun j => Qp j * 31 + Qe j) (fun j hj => ?_) (fun j j' hj hj' e => ?_)
  · have := h5 j hj
    show Qp j * 31 + Qe j < 279
    omega
  · replace e : Qp j * 31 + Qe j = Qp j' * 31 + Qe j' := e
    have a := h5 j hj
    have b := h5 j' hj'
    exact h4 j j' hj hj' (by omega) (by omega)
/-- what an entry still wants -/
def cq_r (N : pn_N) (L : Nat → Nat) (p : Nat) (Qp Qe : Nat → Nat) (j : Nat) : Nat := ca_f N L p (Qp j) (Qe j)
variable {L : Nat → Nat} {p : Nat}
/-- what is given by a contact has its place, and its number -/
theorem cq_g (hN : pn_ok N) (hT : ca_T N L p D) {j k : Nat} (hk : k < 2 * pn_C N) {q e : Nat} (he : D ≤ e) (hm : ca_m N q e k = true) (e1 : Qp j = ca_w N k) (e2 : Qe j = ca_d N k) : cq_r N L p Qp Qe j = L k := by
  have hlt := ca_lt hN hk hm
  unfold cq_r
  rw [e1, e2]
  exact (hT k hk (by omega)).symm
theorem cq_par (hN : pn_ok N) (hT : ca_T N L p D) (h : cq_I N s D Qp Qe Qf Qb M i c) {j : Nat} (hj : 0 < j) (hjM : j < M) : cq_r N L p Qp Qe (Qf j) ≤ 1 + cq_r N L p Qp Qe j := by
  obtain ⟨a1, a2, a3, a4, a5⟩ := h.2.1 j hj hjM
  have hr := h.2.2.2.2.2 (Qf j) (by omega)
  have := cq_g (Qp := Qp) (Qe := Qe) (j := j) hN hT (ca_h_lt a2) hr.2.2 a3 a4 (by rw [ca_h_d]; exact a5)
  rw [this]
  exact ca_f_s (ca_h_lt a2) a3
theorem cq_0 (hN : pn_ok N) (hT : ca_T N L p D) (h : cq_I N s D Qp Qe Qf Qb M i c) : ∀ j, j < M → cq_r N L p Qp Qe 0 ≤ cq_r N L p Qp Qe j + j := by
  intro j
  induction j using Nat.strongRecOn with
  | ind j ih =>
    intro hj
    by_cases h0 : j = 0
    · subst h0
      omega
    · have h1 := cq_par hN hT h (j := j) (by omega) hj
      have h2 := (h.2.1 j (by omega) hj).1
      have h3 := ih (Qf j) h2 (by omega)
      omega
theorem cq_iv (hN : pn_ok N) (hT : ca_T N L p D) (h : cq_I N s D Qp Qe Qf Qb M i c) {m : Nat} (hm : m ≤ cq_r N L p Qp Qe 0) : ∀ j, j < M → cq_r N L p Qp Qe j ≤ m → ∃ i, i ≤ j ∧ cq_r N L p Qp Qe i = m := by
  intro j
  induction j using Nat.strongRecOn with
  | ind j ih =>
    intro hj hle
    by_cases he : cq_r N L p Qp Qe j = m
    · exact ⟨j, Nat.le_refl _, he⟩
    · by_cases h0 : j = 0
      · subst h0
        omega
      · have h1 := cq_par hN hT h (j := j) (by omega) hj
        have h2 := (h.2.1 j (by omega) hj).1
        obtain ⟨i, hi, e⟩ := ih (Qf j) h2 (by omega) (by omega)
        exact ⟨i, by omega, e⟩
/-- the first that wants m -/
def cq_F (N : pn_N) (L : Nat → Nat) (p : Nat) (Qp Qe : Nat → Nat) (m j : Nat) : Prop := cq_r N L p Qp Qe j = m ∧ ∀ i, i < j → cq_r N L p Qp Qe i ≠ m
theorem cq_ch (hN : pn_ok N) (hT : ca_T N L p D) (h : cq_I N s D Qp Qe Qf Qb M i c) {m j : Nat} (hj : j < M) (hF : cq_F N L p Qp Qe m j) (hm : m < cq_r N L p Qp Qe 0) (hm2 : cq_r N L p Qp Qe 0 < 1000) : 0 < j ∧ cq_F N L p Qp Qe (m + 1) (Qf j) ∧ ∀ c', c' < Qb j → ¬ (ca_m N (Qp (Qf j)) (Qe (Qf j)) (ca_h N (Qp (Qf j)) c') = true ∧ L (ca_h N (Qp (Qf j)) c') = m) := by
  obtain ⟨f1, f2⟩ := hF
  have hj0 : 0 < j := by
    refine Nat.pos_of_ne_zero fun h0 => ?_
    rw [h0] at f1
    omega
  obtain ⟨a1, a2, a3, a4, a5⟩ := h.2.1 j hj0 hj
  have h1 := cq_par hN hT h hj0 hj
  have key : ∀ i' c', c' < pn_C N → (i' < Qf j ∨ (i' = Qf j ∧ c' < Qb j)) → ca_m N (Qp i') (Qe i') (ca_h N (Qp i') c') = true → L (ca_h N (Qp i') c') ≠ m := by
    intro i' c' hc' hlt hmm hL
    obtain ⟨j', hj', e1, e2⟩ := h.2.2.1 j hj0 hj i' c' hc' hlt hmm
    have hr := h.2.2.2.2.2 i' (by omega)
    have := cq_g (Qp := Qp) (Qe := Qe) (j := j') hN hT (ca_h_lt hc') hr.2.2 hmm e1 (by rw [ca_h_d]; exact e2)
    exact f2 j' hj' (by rw [this]; exact hL)
  have hne : cq_r N L p Qp Qe (Qf j) ≠ m := f2 _ a1
  have hge : ¬ cq_r N L p Qp Qe (Qf j) < m := by
    intro hlt
    obtain ⟨i', hi', e⟩ := cq_iv hN hT h (m := m) (by omega) (Qf j) (by omega) (by omega)
    exact f2 i' (by omega) e
  refine ⟨hj0, ⟨by omega, fun i' hi' e => ?_⟩, fun c' hc' hh => key (Qf j) c' (by omega) (Or.inr ⟨rfl, hc'⟩) hh.1 hh.2⟩
  have hq : Qp i' ≠ p := by
    intro hq
    unfold cq_r at e
    rw [hq, ca_f_0] at e
    omega
  obtain ⟨k, hk, hmm, hv⟩ := ca_f_x (L := L) (e := Qe i') (N := N) hq (by show cq_r N L p Qp Qe i' < 1000; omega)
  have hu := ca_h_u hN hk hmm
  have hv2 : cq_r N L p Qp Qe i' = 1 + L k := hv
  refine key i' (k / 2) (by omega) (Or.inl hi') (by rw [hu]; exact hmm) ?_
  rw [hu]
  omega
def cq_X (Qf : Nat → Nat) (j : Nat) : Nat → Nat
  | 0 => j
  | t + 1 => Qf (cq_X Qf j t)
/-- **the chain that is found** -/
theorem cq_found (hN : pn_ok N) (hT : ca_T N L p D) (h : cq_I N s D Qp Qe Qf Qb M i c) {j : Nat} (hj : j < M) (hp : Qp j = p) (hf : ∀ j', j' < j → Qp j' ≠ p) : ca_f N L p s D < 1000 ∧ ca_f N L p s D ≤ j ∧ cq_X Qf j (ca_f N L p s D) = 0 ∧ (∀ t, t < ca_f N L p s D → 0 < cq_X Qf j t ∧ cq_X Qf j t ≤ j) ∧ ca_ok N L s D (ca_f N L p s D) (fun t => ca_h N (Qp (cq_X Qf j (ca_f N L p s D - t))) (Qb (cq_X Qf j (ca_f N L p s D - 1 - t)))) := by
  have e0 : cq_r N L p Qp Qe 0 = ca_f N L p s D := by
    unfold cq_r
    rw [h.1.2.1, h.1.2.2]
  have hM := cq_M hN h
  have hz : cq_r N L p Qp Qe j = 0 := by
    unfold cq_r
    rw [hp, ca_f_0]
  have hle := cq_0 hN hT h j hj
  obtain ⟨n, hn⟩ : ∃ n, n = ca_f N L p s D := ⟨_, rfl⟩
  rw [← hn] at e0 ⊢
  have hF : ∀ t, t ≤ n → cq_F N L p Qp Qe t (cq_X Qf j t) ∧ cq_X Qf j t + t ≤ j := by
    intro t
    induction t with
    | zero =>
      intro _
      refine ⟨⟨hz, fun i' hi' e => hf i' hi' (ca_f_z e)⟩, Nat.le_refl _⟩
    | succ t ih =>
      intro ht
      obtain ⟨i1, i2⟩ := ih (by omega)
      obtain ⟨c1, c2, -⟩ := cq_ch hN hT h (j := cq_X Qf j t) (by omega) i1 (by omega) (by omega)
      have := (h.2.1 (cq_X Qf j t) c1 (by omega)).1
      exact ⟨c2, by show Qf (cq_X Qf j t) + (t + 1) ≤ j; omega⟩
  have hlast : cq_X Qf j n = 0 := by
    refine Classical.byContradiction fun hne => ?_
    exact (hF n (Nat.le_refl _)).1.2 0 (by omega) e0
  refine ⟨by omega, by omega, hlast, fun t ht => ?_, fun t ht => ?_⟩
  · obtain ⟨i1, i2⟩ := hF t (by omega)
    obtain ⟨c1, -, -⟩ := cq_ch hN hT h (j := cq_X Qf j t) (by omega) i1 (by omega) (by omega)
    exact ⟨c1, by omega⟩
  · obtain ⟨K, hK⟩ : ∃ K, K = (fun t => ca_h N (Qp (cq_X Qf j (n - t))) (Qb (cq_X Qf j (n - 1 - t)))) := ⟨_, rfl⟩
    rw [← hK]
    obtain ⟨x, hx⟩ : ∃ x, x = cq_X Qf j (n - 1 - t) := ⟨_, rfl⟩
    obtain ⟨i1, i2⟩ := hF (n - 1 - t) (by omega)
    rw [← hx] at i1 i2
    obtain ⟨c1, c2, c3⟩ := cq_ch hN hT h (j := x) (by omega) i1 (by omega) (by omega)
    obtain ⟨a1, a2, a3, a4, a5⟩ := h.2.1 x c1 (by omega)
    have hpar : cq_X Qf j (n - t) = Qf x := by
      rw [hx, show n - t = (n - 1 - t) + 1 by omega]
      rfl
    have hKt : K t = ca_h N (Qp (Qf x)) (Qb x) := by
      rw [hK]
      show ca_h N (Qp (cq_X Qf j (n - t))) (Qb (cq_X Qf j (n - 1 - t))) = _
      rw [hpar, ← hx]
    have hst : ca_q N s K t = Qp (Qf x) ∧ ca_e N D K t = Qe (Qf x) := by
      cases t with
      | zero =>
        have e1 : Qf x = 0 := by
          rw [← hpar, Nat.sub_zero]
          exact hlast
        refine ⟨?_, ?_⟩
        · show s = _
          rw [e1, h.1.2.1]
        · show D = _
          rw [e1, h.1.2.2]
      | succ t =>
        obtain ⟨y, hy⟩ : ∃ y, y = cq_X Qf j (n - 1 - t) := ⟨_, rfl⟩
        have hyx : y = Qf x := by
          rw [hy, ← hpar]
          congr 1
          omega
        obtain ⟨j1, j2⟩ := hF (n - 1 - t) (by omega)
        rw [← hy] at j1 j2
        obtain ⟨d1, -, -⟩ := cq_ch hN hT h (j := y) (by omega) j1 (by omega) (by omega)
        obtain ⟨b1, b2, b3, b4, b5⟩ := h.2.1 y d1 (by omega)
        have hpar2 : cq_X Qf j (n - t) = Qf y := by
          rw [hy, show n - t = (n - 1 - t) + 1 by omega]
          rfl
        have hKt2 : K t = ca_h N (Qp (Qf y)) (Qb y) := by
          rw [hK]
          show ca_h N (Qp (cq_X Qf j (n - t))) (Qb (cq_X Qf j (n - 1 - t))) = _
          rw [hpar2, ← hy]
        refine ⟨?_, ?_⟩
        · show ca_w N (K t) = _
          rw [hKt2, ← b4, hyx]
        · show ca_d N (K t) = _
          rw [hKt2, ca_h_d, ← b5, hyx]
    rw [hst.1, hst.2, hKt]
    have hr := h.2.2.2.2.2 (Qf x) (by omega)
    have hg := cq_g (Qp := Qp) (Qe := Qe) (j := x) hN hT (ca_h_lt a2) hr.2.2 a3 a4 (by rw [ca_h_d]; exact a5)
    refine ⟨ca_h_lt a2, a3, by rw [← hg]; exact i1.1, fun k hk hh => ?_⟩
    have hC : ca_h N (Qp (Qf x)) (Qb x) < 2 * pn_C N := ca_h_lt a2
    have hu := ca_h_u hN (k := k) (by omega) hh.1
    have h2 : ca_h N (Qp (Qf x)) (Qb x) / 2 = Qb x := ca_h_2 _
    by_cases hc : k / 2 < Qb x
    · exact c3 (k / 2) hc (by rw [hu]; exact hh)
    · have : k / 2 = Qb x := by omega
      rw [this] at hu
      omega
/-- **there is none** -/
theorem cq_none (hN : pn_ok N) (hT : ca_T N L p D) (h : cq_I N s D Qp Qe Qf Qb M M 0) (hf : ∀ j, j < M → Qp j ≠ p) : ¬ ca_f N L p s D < 1000 := by
  have key : ∀ r j, j < M → cq_r N L p Qp Qe j = r → r < 1000 → False := by
    intro r
    induction r with
    | zero => intro j hj e _; exact hf j hj (ca_f_z e)
    | succ r ih =>
      intro j hj e hr
      obtain ⟨k, hk, hmm, hv⟩ := ca_f_x (L := L) (e := Qe j) (N := N) (hf j hj) (by show cq_r N L p Qp Qe j < 1000; omega)
      have hv2 : cq_r N L p Qp Qe j = 1 + L k := hv
      have hu := ca_h_u hN hk hmm
      obtain ⟨j', hj', e1, e2⟩ := h.2.2.2.1 j (k / 2) hj (by omega) (Or.inl hj) (by rw [hu]; exact hmm)
      rw [hu] at e1
      have hr5 := h.2.2.2.2.2 j hj
      have := cq_g (Qp := Qp) (Qe := Qe) (j := j') hN hT hk hr5.2.2 hmm e1 e2
      exact ih j' hj' (by omega) (by omega)
  intro hlt
  refine key _ 0 h.1.1 rfl ?_
  unfold cq_r
  rw [h.1.2.1, h.1.2.2]
  exact hlt
end CQ
