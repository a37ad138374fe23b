/-! the Model's state as plain data; what is asked without a walk -/
def pm_row (μ : mo_S) (j : Nat) (r : Option (Nat × Nat × (Nat → Int32))) : Prop := (r = none ∧ μ.2 0 j = -1000000) ∨ ∃ lane len f, r = some (lane, len, f) ∧ μ.2 0 j = nI lane ∧ μ.2 1 j = nI len ∧ ∀ i, i < len → μ.2 2 (40 * j + i) = f i
def pm_img (μ : mo_S) (j : Nat) (r : Option pn_N) : Prop := (r = none ∧ μ.2 10 j = 0) ∨ ∃ N, r = some N ∧ μ.2 10 j = 1 ∧ pn_m (fun i => μ.2 9 (52 * j + i)) N
/-- **how the Model shows a state** -/
def pm_R (μ : mo_S) (S : pa_S) : Prop := pn_m (μ.2 5) (pa_net S) ∧ (μ.1 8 = nI (pa_acts S) ∧ ∀ k, k < pa_acts S → pn_m (fun i => μ.2 8 (52 * k + i)) (pa_past S k)) ∧ (∀ j, j < 2 → pm_img μ j (pa_img S j)) ∧ (∀ j, j < 8 → pm_row μ j (pa_row S j)) ∧ (μ.1 1 = nI (pa_tp S) ∧ ∀ j, j < pa_tp S → μ.2 4 j = nI (pa_tape S j)) ∧ (μ.1 2 = pa_fk S ∧ μ.1 0 = pa_st S) ∧ (μ.1 11 = nI (pa_tn S) ∧ ∀ i, i < pa_tn S → μ.2 16 i = pa_tr S i)
/-- which numbers and arrays show it -/
def pm_i (k : Nat) : Prop := k = 0 ∨ k = 1 ∨ k = 2 ∨ k = 8 ∨ k = 11
def pm_a (k : Nat) : Prop := k = 0 ∨ k = 1 ∨ k = 2 ∨ k = 4 ∨ k = 5 ∨ k = 8 ∨ k = 9 ∨ k = 10 ∨ k = 16
theorem pm_R_fr {μ μ' : mo_S} {S : pa_S} (h1 : ∀ k, pm_i k → μ'.1 k = μ.1 k) (h2 : ∀ k, pm_a k → μ'.2 k = μ.2 k) (h : pm_R μ S) : pm_R μ' S := by
  have i0 := h1 0 (by unfold pm_i; omega)
  have i1 := h1 1 (by unfold pm_i; omega)
  have i2 := h1 2 (by unfold pm_i; omega)
  have i8 := h1 8 (by unfold pm_i; omega)
  have i11 := h1 11 (by unfold pm_i; omega)
  have a0 := h2 0 (by unfold pm_a; omega)
  have a1 := h2 1 (by unfold pm_a; omega)
  have a2 := h2 2 (by unfold pm_a; omega)
  have a4 := h2 4 (by unfold pm_a; omega)
  have a5 := h2 5 (by unfold pm_a; omega)
  have a8 := h2 8 (by unfold pm_a; omega)
  have a9 := h2 9 (by unfold pm_a; omega)
  have a10 := h2 10 (by unfold pm_a; omega)
  have a16 := h2 16 (by unfold pm_a; omega)
  unfold pm_R pm_img pm_row
  rw [i0, i1, i2, i8, i11, a0, a1, a2, a4, a5, a8, a9, a10, a16]
  exact h
theorem pm_R_W {μ : mo_S} {S : pa_S} (W : pn_W) (h : pm_R μ S) : pm_R (pn_mW μ W) S := by
  refine pm_R_fr (μ := μ) (fun _ _ => rfl) (fun k hk => ?_) h
  have h1 : k ≠ 12 := by unfold pm_a at hk; omega
  have h2 : k ≠ 11 := by unfold pm_a at hk; omega
  show va_up (va_up μ.2 11 W.1) 12 W.2 k = μ.2 k
  rw [va_up_ne _ _ h1, va_up_ne _ _ h2]
/-- within two ends -/
def pq_in (v lo hi : Int32) : Bool := decide (lo ≤ v ∧ v ≤ hi)
theorem pq_m (v lo hi : Int32) : mo_in v lo hi = some (pq_in v lo hi) := by
  unfold mo_in pq_in
  by_cases h1 : v < lo
  · rw [if_pos h1, decide_eq_false]
    rintro ⟨h2, -⟩
    exact absurd h1 (Int32.not_lt.mpr h2)
  · rw [if_neg h1]
    by_cases h2 : hi < v
    · rw [if_pos h2, decide_eq_false]
      rintro ⟨-, h3⟩
      exact absurd h2 (Int32.not_lt.mpr h3)
    · rw [if_neg h2, decide_eq_true ⟨Int32.not_lt.mp h1, Int32.not_lt.mp h2⟩]
theorem pq_lt64 (a b : Int32) : a.toInt64 < b.toInt64 ↔ a < b := by
  rw [Int64.lt_iff_toInt_lt, Int32.lt_iff_toInt_lt, Int32.toInt_toInt64, Int32.toInt_toInt64]
theorem pq_cmp (a b : Int64) : (lg_cmp a b < 0 ↔ a < b) ∧ (0 < lg_cmp a b ↔ b < a) ∧ (lg_cmp a b = 0 ↔ a = b) ∧ (lg_cmp a b ≤ 0 ↔ a ≤ b) := by
  unfold lg_cmp
  by_cases h1 : a > b
  · rw [if_pos h1]
    have h2 : ¬ a < b := fun h => by have := Int64.lt_iff_toInt_lt.mp h; have := Int64.lt_iff_toInt_lt.mp h1; omega
    have h3 : ¬ a = b := fun h => by have := Int64.lt_iff_toInt_lt.mp h1; rw [h] at this; omega
    have h4 : ¬ a ≤ b := fun h => by have := Int64.le_iff_toInt_le.mp h; have := Int64.lt_iff_toInt_lt.mp h1; omega
    exact ⟨⟨fun h => absurd h (by decide), fun h => absurd h h2⟩, ⟨fun _ => h1, fun _ => by decide⟩, ⟨fun h => absurd h (by decide), fun h => absurd h h3⟩, ⟨fun h => absurd h (by decide), fun h => absurd h h4⟩⟩
  · rw [if_neg h1]
    by_cases h2 : a = b
    · rw [if_pos h2]
      have h3 : ¬ a < b := fun h => by have := Int64.lt_iff_toInt_lt.mp h; rw [h2] at this; omega
      have h4 : a ≤ b := by rw [Int64.le_iff_toInt_le, h2]; omega
      exact ⟨⟨fun h => absurd h (by decide), fun h => absurd h h3⟩, ⟨fun h => absurd h (by decide), fun h => absurd h h1⟩, ⟨fun _ => h2, fun _ => rfl⟩, ⟨fun _ => h4, fun _ => by decide⟩⟩
    · rw [if_neg h2]
      have h3 : a < b := by
        rw [Int64.lt_iff_toInt_lt]
        have h5 : ¬ b.toInt < a.toInt := fun h => h1 (Int64.lt_iff_toInt_lt.mpr h)
        have h6 : ¬ a.toInt = b.toInt := fun h => h2 (Int64.toInt_inj.mp h)
        omega
      have h4 : a ≤ b := by rw [Int64.le_iff_toInt_le]; have := Int64.lt_iff_toInt_lt.mp h3; omega
      exact ⟨⟨fun _ => h3, fun _ => by decide⟩, ⟨fun h => absurd h (by decide), fun h => absurd h h1⟩, ⟨fun h => absurd h (by decide), fun h => absurd h h2⟩, ⟨fun _ => h4, fun _ => by decide⟩⟩
theorem pq_c (v lo hi : Int32) : cl_X0_isIn v.toInt64 lo.toInt64 hi.toInt64 = some (pq_in v lo hi) := by
  rw [← pq_m]
  unfold cl_X0_isIn mo_in
  simp only [(pq_cmp _ _).1, (pq_cmp _ _).2.1, pq_lt64]
/-- of so many, one -/
theorem pq_lt {v : Int32} {n : Nat} (hn : n < 2 ^ 31) : pq_in v 0 (nI n - 1) = true ↔ ∃ p, p < n ∧ v = nI p := by
  have e : (nI n - 1).toInt = (n : Int) - 1 := by
    rw [Int32.toInt_sub, nI_toInt hn, show (1 : Int32).toInt = 1 by decide]
    apply Int.bmod_eq_of_le <;> omega
  unfold pq_in
  rw [decide_eq_true_iff, Int32.le_iff_toInt_le, Int32.le_iff_toInt_le, e, Int32.toInt_zero]
  constructor
  · rintro ⟨h1, h2⟩
    obtain ⟨p, hp, rfl⟩ := pb_of (v := v) (by rw [Int32.lt_iff_toInt_lt, Int32.toInt_zero]; omega)
    rw [nI_toInt hp] at h2
    exact ⟨p, by omega, rfl⟩
  · rintro ⟨p, hp, rfl⟩
    rw [nI_toInt (by omega)]
    omega
theorem pq_le {v : Int32} {n : Nat} (hn : n < 2 ^ 31) : pq_in v 0 (nI n) = true ↔ ∃ p, p ≤ n ∧ v = nI p := by
  unfold pq_in
  rw [decide_eq_true_iff, Int32.le_iff_toInt_le, Int32.le_iff_toInt_le, nI_toInt hn, Int32.toInt_zero]
  constructor
  · rintro ⟨h1, h2⟩
    obtain ⟨p, hp, rfl⟩ := pb_of (v := v) (by rw [Int32.lt_iff_toInt_lt, Int32.toInt_zero]; omega)
    rw [nI_toInt hp] at h2
    exact ⟨p, by omega, rfl⟩
  · rintro ⟨p, hp, rfl⟩
    rw [nI_toInt (by omega)]
    omega
section PQ
variable {σ : cl_S} {μ : mo_S} {S : pa_S}
theorem pq_cP (h : pc_R σ S) (v : Int32) : cl_X0_isPerson 19 σ v = some (pq_in v 0 (nI (pn_P (pa_net S)) - 1)) := by
  obtain ⟨⟨-, ⟨x0, -, -, x3, -⟩, -⟩, -, ⟨⟨⟨-, k0, -⟩, ⟨v0, -⟩, -⟩, -⟩, -⟩ := h
  unfold cl_X0_isPerson
  rw [pb_gdD _ x0, x3, pb_gdD _ (by decide), pb_gdD _ k0, v0]
  show dx_b1 (cl_X0_isIn v.toInt64 (0 : Int32).toInt64 _) _ = _
  rw [pq_c]
  rfl
theorem pq_mP (h : pm_R μ S) (v : Int32) : mo_isPerson μ v = some (pq_in v 0 (nI (pn_P (pa_net S)) - 1)) := by
  unfold mo_isPerson
  rw [pq_m, show (0 : Int32).toNatClampNeg = 0 by decide, h.1.1]
  rfl
theorem pq_cC (h : pc_R σ S) (v : Int32) : cl_X0_isContact 19 σ v = some (pq_in v 0 (nI (pn_C (pa_net S)) - 1)) := by
  obtain ⟨⟨-, ⟨x0, -, -, x3, -⟩, -⟩, -, ⟨⟨⟨-, k0, -⟩, ⟨-, v0, -⟩, -⟩, -⟩, -⟩ := h
  unfold cl_X0_isContact
  rw [pb_gdD _ x0, x3, pb_gdD _ (by decide), pb_gdD _ k0, v0]
  show dx_b1 (cl_X0_isIn v.toInt64 (0 : Int32).toInt64 _) _ = _
  rw [pq_c]
  rfl
theorem pq_mC (h : pm_R μ S) (v : Int32) : mo_isContact μ v = some (pq_in v 0 (nI (pn_C (pa_net S)) - 1)) := by
  unfold mo_isContact
  rw [pq_m, show (1 : Int32).toNatClampNeg = 1 by decide, h.1.2.1]
  rfl
theorem pq_cD (v : Int32) : cl_X0_isDay v = some (pq_in v 0 (nI 30)) := by
  unfold cl_X0_isDay
  show dx_b1 (cl_X0_isIn v.toInt64 (0 : Int32).toInt64 (30 : Int32).toInt64) _ = _
  rw [pq_c]
  rfl
/-- what both answer alike, with nothing changed -/
def pq_same (o : Option Int32) (q : Option Int32) : Prop := ∃ r, o = some r ∧ q = some r
theorem pq_fault (h : pc_R σ S) (hm : pm_R μ S) : pq_same (cl_X0_fault 19 σ) (mo_fault μ) := by
  obtain ⟨⟨-, ⟨x0, -⟩, -⟩, -, -, -, -, -, -, ⟨-, c2, -⟩, -⟩ := h
  obtain ⟨-, -, -, -, -, ⟨m1, -⟩, -⟩ := hm
  unfold cl_X0_fault mo_fault
  rw [pb_gdD _ x0, c2, m1]
  exact ⟨_, rfl, rfl⟩
theorem pq_status (h : pc_R σ S) (hm : pm_R μ S) : pq_same (cl_X0_status 19 σ) (mo_status μ) := by
  obtain ⟨⟨-, ⟨x0, -⟩, -⟩, -, -, -, -, -, -, ⟨-, -, c3⟩, -⟩ := h
  obtain ⟨-, -, -, -, -, ⟨-, m1⟩, -⟩ := hm
  unfold cl_X0_status mo_status
  rw [pb_gdD _ x0, c3, m1]
  exact ⟨_, rfl, rfl⟩
theorem pq_trace (h : pc_R σ S) (hm : pm_R μ S) (v : Int32) : pq_same (cl_X0_trace 19 σ v) (mo_trace μ v) := by
  obtain ⟨⟨-, ⟨x0, -⟩, -⟩, -, -, -, -, -, -, -, ⟨⟨u0, u1, u2, u3, u4⟩, u5, u6, u7⟩⟩ := h
  obtain ⟨-, -, -, -, -, -, ⟨m1, m2⟩⟩ := hm
  unfold cl_X0_trace mo_trace
  rw [pb_gdD _ x0, pb_gdD _ u0, pb_gdD _ u1, u6, m1, pq_m]
  have e : cl_X0_isIn v.toInt64 (0 : Int64) ((nI (pa_tn S) - 1).toInt64) = some (pq_in v 0 (nI (pa_tn S) - 1)) := pq_c v 0 _
  rw [e]
  show pq_same (dx_ib (pq_in v 0 (nI (pa_tn S) - 1)) _ _) (dx_ib (pq_in v 0 (nI (pa_tn S) - 1)) _ _)
  cases hb : pq_in v 0 (nI (pa_tn S) - 1) with
  | false => exact ⟨_, rfl, rfl⟩
  | true =>
    obtain ⟨p, hp, rfl⟩ := (pq_lt (by omega)).mp hb
    show pq_same (dx_gd _ _) (dx_gd _ _)
    rw [u2, pb_gdD _ u0, pb_gdD _ (by omega), pb_gdD _ u3, u4, pn_gdi _ (by omega) (by omega), pn_gdi _ (by omega) (by omega), nI_clamp (by omega), u7 p hp, m2 p hp]
    exact ⟨_, rfl, rfl⟩
theorem pq_kd (h : pc_R σ S) {p : Nat} (hp : p < pn_P (pa_net S)) : cl_dP_kind (cl_r σ 31 p) σ = some (nI (pn_kd (pa_net S) p)) := by
  obtain ⟨-, -, ⟨⟨-, -, hP, -⟩, hN⟩, -⟩ := h
  obtain ⟨⟨-, hk, -⟩, -⟩ := hP p hp
  obtain ⟨g1, g2, g3, g4, g5, g6, g7⟩ := pn_kdb hN hp
  replace hk : cl_k σ (cl_r σ 31 p) = 8 + pn_kd (pa_net S) p := hk
  unfold cl_dP_kind cl_X11_kind cl_X12_kind cl_X13_kind cl_X14_kind cl_X15_kind
  have h5 : pn_kd (pa_net S) p = 1 ∨ pn_kd (pa_net S) p = 2 ∨ pn_kd (pa_net S) p = 3 ∨ pn_kd (pa_net S) p = 4 ∨ pn_kd (pa_net S) p = 5 := by omega
  rcases h5 with e | e | e | e | e <;> rw [e] at hk ⊢ <;> simp [hk] <;> rfl
theorem pq_kind (h : pc_R σ S) (hm : pm_R μ S) (v : Int32) : pq_same (cl_X0_kind 19 σ v) (mo_kind μ v) := by
  unfold cl_X0_kind mo_kind
  rw [pq_cP h, pq_mP hm, pb_gdD _ h.1.2.1.1]
  show pq_same (dx_ib (pq_in v 0 _) _ _) (dx_ib (pq_in v 0 _) _ _)
  have hP9 := h.2.2.1.2.1
  cases hb : pq_in v 0 (nI (pn_P (pa_net S)) - 1) with
  | false => exact ⟨_, rfl, rfl⟩
  | true =>
    obtain ⟨p, hp, rfl⟩ := (pq_lt (by omega)).mp hb
    show pq_same (dx_gd _ _) (dx_b1 _ _)
    have hk := pq_kd h hp
    obtain ⟨⟨-, ⟨x0, -, -, x3, -⟩, -⟩, -, ⟨⟨⟨-, k0, ⟨k1, l1, r1⟩, -⟩, -, hP, -⟩, hN⟩, -⟩ := h
    obtain ⟨⟨⟨hr, -⟩, -⟩, -⟩ := hP p hp
    replace hr : cl_K < cl_r σ 31 p := hr
    replace r1 : cl_r σ 30 4 = 31 := r1
    replace k1 : cl_k σ 31 = 25 := k1
    replace l1 : cl_l σ 31 = 9 := l1
    unfold mo_kindIn
    rw [x3, pb_gdD _ (by decide), pb_gdD _ k0, r1, pb_gdD _ (by decide), pb_gdD _ k1, l1, pn_gdi _ (by omega) (by omega), nI_clamp (by omega), pb_gdD _ (by omega), hk, pn_i4, pn_gdi _ (by omega) (by omega), nI_clamp (by omega), (hm.1.2.2.2.2.1 p hp).1]
    exact ⟨_, rfl, rfl⟩
theorem pq_contact (h : pc_R σ S) (hm : pm_R μ S) (v w : Int32) : pq_same (cl_X0_contact 19 σ v w) (mo_contact μ v w) := by
  unfold cl_X0_contact mo_contact
  rw [pq_cC h, pq_mC hm, pb_gdD _ h.1.2.1.1]
  show pq_same (dx_ib (pq_in v 0 _) _ _) (dx_ib (pq_in v 0 _) _ _)
  have hC10 := h.2.2.1.2.2.1
  cases hb : pq_in v 0 (nI (pn_C (pa_net S)) - 1) with
  | false => exact ⟨_, rfl, rfl⟩
  | true =>
    obtain ⟨p, hp, rfl⟩ := (pq_lt (by omega)).mp hb
    obtain ⟨⟨-, ⟨x0, -, -, x3, -⟩, -⟩, -, ⟨⟨⟨-, k0, -, -, ⟨k3, l3, r3⟩, ⟨k4, l4, r4⟩, ⟨k5, l5, r5⟩, -⟩, -, -, hC, -⟩, hN⟩, -⟩ := h
    obtain ⟨y1, y2, y3⟩ := hC p hp
    obtain ⟨m1, m2, m3⟩ := hm.1.2.2.2.2.2 p hp
    replace r3 : cl_r σ 30 6 = 33 := r3
    replace r4 : cl_r σ 30 7 = 34 := r4
    replace r5 : cl_r σ 30 8 = 35 := r5
    replace k3 : cl_k σ 33 = 20 := k3
    replace k4 : cl_k σ 34 = 20 := k4
    replace k5 : cl_k σ 35 = 20 := k5
    replace l3 : cl_l σ 33 = 10 := l3
    replace l4 : cl_l σ 34 = 10 := l4
    replace l5 : cl_l σ 35 = 10 := l5
    replace y1 : cl_i σ 33 p = _ := y1
    replace y2 : cl_i σ 34 p = _ := y2
    replace y3 : cl_i σ 35 p = _ := y3
    have i1 : dx_inb (nI p) 10 = true := by rw [pb_inb (by omega), decide_eq_true (by omega)]
    have cc : (nI p).toNatClampNeg = p := nI_clamp (by omega)
    show pq_same (if w = 0 then _ else _) (dx_b1 _ _)
    rw [pq_m]
    show pq_same _ (dx_ib (pq_in w 0 (nI 2)) _ _)
    simp only [x3, k0, r3, r4, r5, k3, k4, k5, l3, l4, l5, i1, cc, y1, y2, y3, pb_gdT, decide_true, pn_i22]
    have z : decide (¬ (30 : Nat) = 0) = true ∧ decide (¬ (33 : Nat) = 0) = true ∧ decide (¬ (34 : Nat) = 0) = true ∧ decide (¬ (35 : Nat) = 0) = true := by decide
    rw [z.1, z.2.1, z.2.2.1, z.2.2.2]
    simp only [pb_gdT]
    cases hb2 : pq_in w 0 (nI 2) with
    | false =>
      have n0 : ¬ w = 0 := fun e => by rw [e] at hb2; revert hb2; decide
      have n1 : ¬ w = 1 := fun e => by rw [e] at hb2; revert hb2; decide
      have n2 : ¬ w = 2 := fun e => by rw [e] at hb2; revert hb2; decide
      rw [if_neg n0, if_neg n1, if_neg n2]
      exact ⟨_, rfl, rfl⟩
    | true =>
      obtain ⟨q, hq, rfl⟩ := (pq_le (by omega)).mp hb2
      show pq_same _ (dx_gd (dx_inb (nI (22 + 3 * p) + nI q) 52) (some (μ.2 5 (nI (22 + 3 * p) + nI q).toNatClampNeg)))
      rw [pb_add, pn_gdi _ (by omega) (by omega), nI_clamp (by omega)]
      have hq3 : q = 0 ∨ q = 1 ∨ q = 2 := by omega
      rcases hq3 with rfl | rfl | rfl
      · rw [if_pos (by decide), show 22 + 3 * p + 0 = 22 + 3 * p by omega, m1]
        exact ⟨_, rfl, rfl⟩
      · rw [if_neg (by decide), if_pos (by decide), show 22 + 3 * p + 1 = 23 + 3 * p by omega, m2]
        exact ⟨_, rfl, rfl⟩
      · rw [if_neg (by decide), if_neg (by decide), if_pos (by decide), show 22 + 3 * p + 2 = 24 + 3 * p by omega, m3]
        exact ⟨_, rfl, rfl⟩
end PQ
