/-! persons, counts -/
def pb_fold {α : Type} (g : Nat → α → α) (a : α) : Nat → α
  | 0 => a
  | n + 1 => g n (pb_fold g a n)
/-- a loop that counts up to n -/
theorem pb_lpf {α ρ : Type} {b : α × Int32 → Option ((α × Int32) ⊕ ρ)} (g : Nat → α → α) (a : α) (n : Nat) (z : ρ) (h : ∀ i, i < n → b (pb_fold g a i, nI i) = some (.inl (g i (pb_fold g a i), nI (i + 1)))) (hx : b (pb_fold g a n, nI n) = some (.inr z)) (hn : n < 1000000) : dx_lp b dx_fu (a, 0) = some z := by
  have := pb_lp (b := b) (z := z) n (fun i => (pb_fold g a i, nI i)) (fun i hi => h i hi) hx hn
  rw [← nI_0]
  exact this
def pn_ofg (N : pn_N) (p : Nat) : Nat → Int32 → Int32 := fun c s => if pn_a N c = p ∨ pn_b N c = p then s ||| ((1 : Int32) <<< (nI c &&& 31)) else s ||| 0
/-- the contacts of one, as bits -/
def pn_of (N : pn_N) (p : Nat) : Int32 := pb_fold (pn_ofg N p) 0 (pn_C N)
theorem pn_c_of {σ : cl_S} {o : Nat} {N : pn_N} (h : pc_N σ o N) (hN : pn_ok N) {p : Nat} (hp : p < 2 ^ 31) : cl_X2_of o σ (nI p) = some (pn_of N p) := by
  obtain ⟨⟨-, k0, -, -, ⟨k3, l3, r3⟩, ⟨k4, l4, r4⟩, -⟩, ⟨-, v1, -⟩, -, hC, -⟩ := h
  have hC10 := hN.2.1
  have hP9 := hN.1
  unfold cl_X2_of
  refine pb_lpf (pn_ofg N p) 0 (pn_C N) _ (fun i hi => ?_) ?_ (by omega)
  · obtain ⟨y1, y2, y3⟩ := hC i hi
    obtain ⟨c1, c2, -⟩ := hN.2.2.2.2 i hi
    show cl_X2_of_L4 o σ (nI p) (pb_fold (pn_ofg N p) 0 i) (nI i) = _
    have i1 : dx_inb (nI i) 10 = true := by rw [pb_inb (by omega), decide_eq_true (by omega)]
    have cc : (nI i).toNatClampNeg = i := nI_clamp (by omega)
    have e9 : nI i + (1 : Int32) = nI (i + 1) := (nI_succ i).symm
    have z3 : ¬ o + 3 = 0 := by omega
    have z4 : ¬ o + 4 = 0 := by omega
    have q1 : nI (pn_a N i) = nI p ↔ pn_a N i = p := pb_inj (by omega) hp
    have q2 : nI (pn_b N i) = nI p ↔ pn_b N i = p := pb_inj (by omega) hp
    have hle : ¬ nI (pn_C N) ≤ nI i := fun h => absurd ((pb_le (by omega) (by omega)).mp h) (by omega)
    unfold cl_X2_of_L4 cl_X2_of_J33
    simp only [k0, v1, hle, r3, r4, k3, k4, l3, l4, i1, cc, y1, y2, z3, z4, q1, q2, not_false_iff, decide_true, pb_gdT, if_false, e9]
    unfold pn_ofg
    by_cases h1 : pn_a N i = p
    · rw [if_pos h1, if_pos (Or.inl h1)]
    · rw [if_neg h1]
      by_cases h2 : pn_b N i = p
      · rw [if_pos h2, if_pos (Or.inr h2)]
      · rw [if_neg h2, if_neg (by omega)]
  · show cl_X2_of_L4 o σ (nI p) (pb_fold (pn_ofg N p) 0 (pn_C N)) (nI (pn_C N)) = _
    unfold cl_X2_of_L4
    rw [pb_gdD _ k0, v1, if_pos ((pb_le (by omega) (by omega)).mpr (Nat.le_refl _))]
    rfl
theorem pn_m_of {μ : mo_S} {k0 : Nat} {N : pn_N} (hk : mo_len k0 = 52) (hm : pn_m (μ.2 k0) N) (hN : pn_ok N) {p : Nat} (hp : p < 2 ^ 31) : mo_contactsOf k0 μ (nI p) = some (pn_of N p) := by
  have hC10 := hN.2.1
  have hP9 := hN.1
  have e1 : (1 : Int32).toNatClampNeg = 1 := by decide
  have i1 : dx_inb (1 : Int32) 52 = true := by decide
  unfold mo_contactsOf
  refine pb_lpf (pn_ofg N p) 0 (pn_C N) _ (fun i hi => ?_) ?_ (by omega)
  · obtain ⟨y1, y2, y3⟩ := hm.2.2.2.2.2 i hi
    obtain ⟨c1, c2, -⟩ := hN.2.2.2.2 i hi
    show mo_contactsOf_L5 k0 μ (nI p) (pb_fold (pn_ofg N p) 0 i) (nI i) = _
    have e9 : nI i + (1 : Int32) = nI (i + 1) := (nI_succ i).symm
    have q1 : nI (pn_a N i) = nI p ↔ pn_a N i = p := pb_inj (by omega) hp
    have q2 : nI (pn_b N i) = nI p ↔ pn_b N i = p := pb_inj (by omega) hp
    have hle : ¬ nI (pn_C N) ≤ nI i := fun h => absurd ((pb_le (by omega) (by omega)).mp h) (by omega)
    unfold mo_contactsOf_L5 mo_contactsOf_J42
    rw [hk, dx_gd_t _ i1, e1, hm.2.1, if_neg hle, pn_i22, pn_i23, pn_gdi _ (by omega) (by omega), pn_gdi _ (by omega) (by omega), nI_clamp (by omega), nI_clamp (by omega), y1, y2, e9]
    simp only [q1, q2]
    unfold pn_ofg
    by_cases h1 : pn_a N i = p
    · rw [if_pos h1, if_pos (Or.inl h1)]
    · rw [if_neg h1]
      by_cases h2 : pn_b N i = p
      · rw [if_pos h2, if_pos (Or.inr h2)]
      · rw [if_neg h2, if_neg (by omega)]
  · show mo_contactsOf_L5 k0 μ (nI p) (pb_fold (pn_ofg N p) 0 (pn_C N)) (nI (pn_C N)) = _
    unfold mo_contactsOf_L5
    rw [hk, dx_gd_t _ i1, e1, hm.2.1, if_pos ((pb_le (by omega) (by omega)).mpr (Nat.le_refl _))]
    rfl
section PR
variable {σ : cl_S} {μ : mo_S} {S : pa_S}
theorem pn_i5 (p : Nat) : nI (4 + 2 * p) + (1 : Int32) = nI (5 + 2 * p) := by rw [pl_1, pb_add]; congr 1; omega
/-- a window's two ends, as both tell them -/
def pr_w (N : pn_N) (p q : Nat) : Int32 := if pn_kd N p < 4 then nI (if q = 0 then pn_lw N p else pn_hg N p) else -1000000
theorem pr_key {E : Option Int32} (h : ∃ r, E = some r) : pq_same E E := by
  obtain ⟨r, h⟩ := h
  exact ⟨r, h, h⟩
theorem pr_nN {n : Nat} (h : n < 2 ^ 31) : ¬ nI n = (-1000000 : Int32) := by
  intro h1
  have h2 := congrArg Int32.toInt h1
  rw [nI_toInt h, show (-1000000 : Int32).toInt = -1000000 by decide] at h2
  omega
theorem pr_person (h : pc_R σ S) (hm : pm_R μ S) (v w : Int32) : pq_same (cl_X0_person 19 σ v w) (mo_person μ v w) := by
  unfold cl_X0_person mo_person
  rw [pq_cP h, pq_mP hm, pb_gdD _ h.1.2.1.1]
  show pq_same (dx_ib (pq_in v 0 _) _ _) (dx_ib (pq_in v 0 _) _ _)
  have hP9 := h.2.2.1.2.1
  cases hb : pq_in v 0 (nI (pn_P (pa_net S)) - 1) with
  | false => exact ⟨_, rfl, rfl⟩
  | true =>
    obtain ⟨p, hp, rfl⟩ := (pq_lt (by omega)).mp hb
    have hof := pn_c_of h.2.2.1.1 h.2.2.1.2 (p := p) (by omega)
    have hofm := pn_m_of (k0 := 5) rfl hm.1 h.2.2.1.2 (p := p) (by omega)
    obtain ⟨w0, w1⟩ := pn_m_wo (k0 := 5) rfl hm.1 h.2.2.1.2 hp
    obtain ⟨⟨-, ⟨x0, -, -, x3, -⟩, -⟩, -, ⟨⟨⟨-, k0, -, ⟨k2, l2, r2⟩, -, -, -, ⟨k6, l6, r6⟩⟩, -, hP, -⟩, hN⟩, -⟩ := h
    obtain ⟨-, hil, hw⟩ := hP p hp
    replace r2 : cl_r σ 30 5 = 32 := r2
    replace r6 : cl_r σ 30 9 = 36 := r6
    replace k2 : cl_k σ 32 = 20 := k2
    replace k6 : cl_k σ 36 = 26 := k6
    replace l2 : cl_l σ 32 = 9 := l2
    replace l6 : cl_l σ 36 = 9 := l6
    replace hil : cl_i σ 32 p = _ := hil
    replace hw : pc_Wp σ (cl_r σ 36 p) _ p := hw
    have i1 : dx_inb (nI p) 9 = true := by rw [pb_inb (by omega), decide_eq_true (by omega)]
    have cc : (nI p).toNatClampNeg = p := nI_clamp (by omega)
    have z : decide (¬ (30 : Nat) = 0) = true ∧ decide (¬ (32 : Nat) = 0) = true ∧ decide (¬ (36 : Nat) = 0) = true := by decide
    show pq_same (dx_gd _ _) (if w = 0 then _ else _)
    have hwin : cl_X2_window 30 σ (nI p) = some (cl_r σ 36 p) := by
      unfold cl_X2_window
      simp only [k0, r6, k6, l6, i1, cc, z.2.2, pb_gdT, decide_true]
      split
      · rename_i e; rw [e]
      · rfl
    have mil : mo_len 5 = 52 := rfl
    unfold mo_person_J44
    have im : dx_inb (nI (5 + 2 * p)) 52 = true := by rw [pb_inb (by omega), decide_eq_true (by omega)]
    have cm : (nI (5 + 2 * p)).toNatClampNeg = 5 + 2 * p := nI_clamp (by omega)
    rw [x3, z.1, pb_gdT, pb_gdD _ k0, hwin, pn_i4, pn_i5, im, cm, pb_gdT, (hm.1.2.2.2.2.1 p hp).2, hofm]
    show pq_same (if cl_r σ 36 p = 0 then _ else _) _
    simp only [r2, k2, l2, i1, cc, hil, z.1, z.2.1, pb_gdT, decide_true, hof]
    unfold pc_Wp at hw
    by_cases h4 : pn_kd (pa_net S) p < 4
    · rw [if_pos h4] at hw
      obtain ⟨⟨g1, g2⟩, g3, g4, g5⟩ := hw
      rw [if_neg (by omega : ¬ cl_r σ 36 p = 0)]
      unfold cl_X16_least cl_X16_most
      rw [pb_gdD _ g3, pb_gdD _ g3, pb_gdD _ g3, pb_gdD _ g3, g4, g5]
      rw [if_pos h4] at w0 w1
      by_cases e0 : w = 0
      · subst e0
        rw [if_pos rfl, if_pos rfl, w0]
        exact ⟨_, rfl, rfl⟩
      · rw [if_neg e0, if_neg e0]
        by_cases e1 : w = 1
        · subst e1
          rw [if_pos rfl, if_pos rfl, w1]
          exact ⟨_, rfl, rfl⟩
        · rw [if_neg e1, if_neg e1]
          refine pr_key ?_
          split
          · exact ⟨_, rfl⟩
          · split <;> exact ⟨_, rfl⟩
    · rw [if_neg h4] at hw
      rw [if_pos hw]
      rw [if_neg h4] at w0 w1
      by_cases e0 : w = 0
      · subst e0
        rw [if_pos rfl, if_pos rfl, w0]
        exact ⟨_, rfl, rfl⟩
      · rw [if_neg e0, if_neg e0]
        by_cases e1 : w = 1
        · subst e1
          rw [if_pos rfl, if_pos rfl, w1]
          exact ⟨_, rfl, rfl⟩
        · rw [if_neg e1, if_neg e1]
          refine pr_key ?_
          split
          · exact ⟨_, rfl⟩
          · split <;> exact ⟨_, rfl⟩
theorem pr_rowsThere (h : pc_R σ S) (hm : pm_R μ S) : pq_same (cl_X0_rowsThere 19 σ) (dx_lp (fun x : Int32 × Int32 => mo_count_L50 μ x.1 x.2) dx_fu ((0 : Int32), (0 : Int32))) := by
  let g : Nat → Int32 → Int32 := fun j a => if pa_row S j = none then a + 0 else a + 1
  refine ⟨pb_fold g 0 8, ?_, ?_⟩
  · unfold cl_X0_rowsThere
    obtain ⟨⟨-, ⟨x0, x1, -⟩, ⟨⟨r0, r1⟩, r2⟩, -⟩, -, -, -, -, rw_, -⟩ := h
    refine pb_lpf (b := fun x : Int32 × Int32 => cl_X0_rowsThere_L4 19 σ x.1 x.2) g 0 8 _ (fun i hi => ?_) rfl (by omega)
    show cl_X0_rowsThere_L4 19 σ (pb_fold g 0 i) (nI i) = _
    have e9 : nI i + (1 : Int32) = nI (i + 1) := (nI_succ i).symm
    have h8 : ¬ (8 : Int32) ≤ nI i := fun h => absurd ((pb_le (a := 8) (by omega) (by omega)).mp h) (by omega)
    unfold cl_X0_rowsThere_L4
    rw [if_neg h8, pb_gdD _ x0, x1, pb_gdD _ (by decide), pb_gdD _ r0, r1, pn_gdi _ (by omega) (by omega), nI_clamp (by omega), (r2 i hi).1, pb_gdD _ (by omega), pb_gdD _ (r2 i hi).2, e9]
    show _ = some (Sum.inl ((if pa_row S i = none then pb_fold g 0 i + 0 else pb_fold g 0 i + 1), nI (i + 1)))
    rcases rw_ i hi with ⟨e1, e2⟩ | ⟨lane, len, f, e1, -, -, e2, -⟩
    · rw [if_pos e2, if_pos e1]
    · rw [if_neg e2, if_neg (by rw [e1]; exact fun h => nomatch h)]
  · obtain ⟨-, -, -, rw_, -⟩ := hm
    obtain ⟨-, -, -, -, -, rc, -⟩ := h
    refine pb_lpf (b := fun x : Int32 × Int32 => mo_count_L50 μ x.1 x.2) g 0 8 _ (fun i hi => ?_) rfl (by omega)
    show mo_count_L50 μ (pb_fold g 0 i) (nI i) = _
    have e9 : nI i + (1 : Int32) = nI (i + 1) := (nI_succ i).symm
    have h8 : ¬ (8 : Int32) ≤ nI i := fun h => absurd ((pb_le (a := 8) (by omega) (by omega)).mp h) (by omega)
    unfold mo_count_L50 mo_isMissing
    rw [if_neg h8, pn_gdi _ (by omega) (by omega), nI_clamp (by omega), e9]
    show _ = some (Sum.inl ((if pa_row S i = none then pb_fold g 0 i + 0 else pb_fold g 0 i + 1), nI (i + 1)))
    rcases rw_ i hi with ⟨e1, e2⟩ | ⟨lane, len, f, e1, e2, -⟩
    · rw [if_pos e1, e2]
      rfl
    · have hl : lane ≤ 2 := by
        rcases rc i hi with ⟨e3, -⟩ | ⟨_, _, _, e3, e4, -⟩
        · rw [e1] at e3; cases e3
        · rw [e1] at e3; cases e3; exact e4
      have hn : ¬ pa_row S i = none := by rw [e1]; exact fun h => nomatch h
      rw [e2, if_neg (pr_nN (by omega)), if_neg hn]
      rfl
/-- those that are ill -/
theorem pr_cases (h : pc_R σ S) (hm : pm_R μ S) : pq_same (cl_X0_cases 19 σ) (dx_lp (fun x : Int32 × Int32 => mo_count_L96 μ x.1 x.2) dx_fu ((0 : Int32), (0 : Int32))) := by
  let g : Nat → Int32 → Int32 := fun j a => if 0 ≤ pn_il (pa_net S) j then a + 1 else a + 0
  have hP9 := h.2.2.1.2.1
  refine ⟨pb_fold g 0 (pn_P (pa_net S)), ?_, ?_⟩
  · unfold cl_X0_cases
    obtain ⟨⟨-, ⟨x0, -, -, x3, -⟩, -⟩, -, ⟨⟨⟨-, k0, -, ⟨k2, l2, r2⟩, -⟩, ⟨v0, -⟩, hP, -⟩, hN⟩, -⟩ := h
    replace r2 : cl_r σ 30 5 = 32 := r2
    replace k2 : cl_k σ 32 = 20 := k2
    replace l2 : cl_l σ 32 = 9 := l2
    refine pb_lpf (b := fun x : Int32 × Int32 => cl_X0_cases_L4 19 σ x.1 x.2) g 0 (pn_P (pa_net S)) _ (fun i hi => ?_) ?_ (by omega)
    · show cl_X0_cases_L4 19 σ (pb_fold g 0 i) (nI i) = _
      obtain ⟨-, hil, -⟩ := hP i hi
      replace hil : cl_i σ 32 i = _ := hil
      have e9 : nI i + (1 : Int32) = nI (i + 1) := (nI_succ i).symm
      have hle : ¬ nI (pn_P (pa_net S)) ≤ nI i := fun h => absurd ((pb_le (by omega) (by omega)).mp h) (by omega)
      unfold cl_X0_cases_L4
      rw [pb_gdD _ x0, x3, pb_gdD _ (by decide), pb_gdD _ k0, v0, if_neg hle, pb_gdD _ (by decide), r2, pb_gdD _ (by decide), pb_gdD _ k2, l2, pn_gdi _ (by omega) (by omega), nI_clamp (by omega), hil, e9]
      show _ = some (Sum.inl ((if 0 ≤ pn_il (pa_net S) i then pb_fold g 0 i + 1 else pb_fold g 0 i + 0), nI (i + 1)))
      split <;> rfl
    · show cl_X0_cases_L4 19 σ _ (nI (pn_P (pa_net S))) = _
      unfold cl_X0_cases_L4
      rw [pb_gdD _ x0, x3, pb_gdD _ (by decide), pb_gdD _ k0, v0, if_pos ((pb_le (by omega) (by omega)).mpr (Nat.le_refl _))]
      rfl
  · obtain ⟨⟨m0, -, -, -, m4, -⟩, -⟩ := hm
    have e0 : (0 : Int32).toNatClampNeg = 0 := by decide
    refine pb_lpf (b := fun x : Int32 × Int32 => mo_count_L96 μ x.1 x.2) g 0 (pn_P (pa_net S)) _ (fun i hi => ?_) ?_ (by omega)
    · show mo_count_L96 μ (pb_fold g 0 i) (nI i) = _
      have e9 : nI i + (1 : Int32) = nI (i + 1) := (nI_succ i).symm
      have hle : ¬ nI (pn_P (pa_net S)) ≤ nI i := fun h => absurd ((pb_le (by omega) (by omega)).mp h) (by omega)
      unfold mo_count_L96
      rw [e0, m0, if_neg hle, pn_i4, pn_i5, pn_gdi _ (by omega) (by omega), nI_clamp (by omega), (m4 i hi).2, e9]
      show _ = some (Sum.inl ((if 0 ≤ pn_il (pa_net S) i then pb_fold g 0 i + 1 else pb_fold g 0 i + 0), nI (i + 1)))
      split <;> rfl
    · show mo_count_L96 μ _ (nI (pn_P (pa_net S))) = _
      unfold mo_count_L96
      rw [e0, m0, if_pos ((pb_le (by omega) (by omega)).mpr (Nat.le_refl _))]
      rfl
theorem pr_count (h : pc_R σ S) (hm : pm_R μ S) (v : Int32) : pq_same (cl_X0_count 19 σ v) (mo_count μ v) := by
  obtain ⟨a, a1, a2⟩ := pr_rowsThere h hm
  obtain ⟨b, b1, b2⟩ := pr_cases h hm
  unfold cl_X0_count mo_count
  rw [a1, a2, b1, b2]
  obtain ⟨⟨-, ⟨x0, -, -, x3, -⟩, -⟩, -, ⟨⟨⟨-, k0, -⟩, ⟨v0, v1, v2, v3⟩, -⟩, -⟩, -, -, -, ⟨-, t2, -⟩, ⟨c1, -⟩, -⟩ := h
  obtain ⟨⟨m0, m1, m2, m3, -⟩, ⟨m5, -⟩, -, -, ⟨m6, -⟩, -⟩ := hm
  have e0 : (0 : Int32).toNatClampNeg = 0 := by decide
  have e1 : (1 : Int32).toNatClampNeg = 1 := by decide
  have e2 : (2 : Int32).toNatClampNeg = 2 := by decide
  have e3 : (3 : Int32).toNatClampNeg = 3 := by decide
  have z : decide (¬ (30 : Nat) = 0) = true := by decide
  simp only [x0, x3, k0, v0, v1, v2, v3, t2, c1, m0, m1, m2, m3, m5, m6, e0, e1, e2, e3, z, decide_true, pb_gdT]
  by_cases h0 : v = 0
  · rw [if_pos h0, if_pos h0]; exact ⟨_, rfl, rfl⟩
  rw [if_neg h0, if_neg h0]
  by_cases h0 : v = 1
  · rw [if_pos h0, if_pos h0]; exact ⟨_, rfl, rfl⟩
  rw [if_neg h0, if_neg h0]
  by_cases h0 : v = 2
  · rw [if_pos h0, if_pos h0]; exact ⟨_, rfl, rfl⟩
  rw [if_neg h0, if_neg h0]
  by_cases h0 : v = 3
  · rw [if_pos h0, if_pos h0]; exact ⟨_, rfl, rfl⟩
  rw [if_neg h0, if_neg h0]
  refine pr_key ?_
  split
  · exact ⟨_, rfl⟩
  · split
    · exact ⟨_, rfl⟩
    · split
      · exact ⟨_, rfl⟩
      · split <;> exact ⟨_, rfl⟩
end PR
