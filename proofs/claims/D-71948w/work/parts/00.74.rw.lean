/-! as; the first of some days -/
section RW
variable {σ : cl_S} {μ : mo_S} {S : pa_S}
theorem rw_as (h : pc_R σ S) (hm : pm_R μ S) (v w : Int32) : pq_any (cl_X0_as 19 σ v w) (mo_as μ v w) := by
  obtain ⟨hN, hpast, ha⟩ := pe_ok h
  have hP9 := hN.1
  have bad : pq_any (some ((-1000001 : Int32), σ)) (some ((-1000001 : Int32), μ)) := ⟨S, _, _, _, rfl, rfl, h, hm⟩
  obtain ⟨x0, x3, k0, ⟨k1, l1, r1⟩, -⟩ := pe_30 h
  have i1 : cl_X0_isIn w.toInt64 (0 : Int64) (5 : Int64) = some (pq_in w 0 (nI 5)) := pq_c w 0 5
  have j1 : mo_in w (0 : Int32) (5 : Int32) = some (pq_in w 0 (nI 5)) := pq_m w 0 5
  unfold cl_X0_as mo_as
  rw [pb_gdD _ x0, pq_cP h, pq_mP hm, i1, j1]
  simp only [pb_b1]
  cases hv : pq_in v 0 (nI (pn_P (pa_net S)) - 1) with
  | false => exact bad
  | true =>
    simp only [pb_ibT]
    cases hw : pq_in w 0 (nI 5) with
    | false => exact bad
    | true =>
      simp only [pb_ibT]
      obtain ⟨p, hp, rfl⟩ := (pq_lt (by omega)).mp hv
      obtain ⟨k, hk5, rfl⟩ := (pq_le (by omega)).mp hw
      obtain ⟨⟨⟨g1, g2⟩, g3, g4⟩, -⟩ := h.2.2.1.1.2.2.1 p hp
      replace g1 : cl_K < cl_r σ 31 p := g1
      replace g3 : cl_k σ (cl_r σ 31 p) = 8 + pn_kd (pa_net S) p := g3
      replace g4 : cl_i σ (cl_r σ 31 p) 0 = nI p := g4
      have nr : cl_r σ 31 p ≠ 0 := by omega
      have i9 : dx_inb (nI p) 9 = true := by rw [pb_inb (by omega), decide_eq_true (by omega)]
      have cc : (nI p).toNatClampNeg = p := nI_clamp (by omega)
      have im : dx_inb (nI (4 + 2 * p)) 52 = true := by rw [pb_inb (by omega), decide_eq_true (by omega)]
      have cm : (nI (4 + 2 * p)).toNatClampNeg = 4 + 2 * p := nI_clamp (by omega)
      obtain ⟨-, -, -, -, -, hkd1, hkd2⟩ := pn_kdb hN hp
      unfold mo_kindIn
      rw [x3, pb_gdD _ (by decide), pb_gdD _ k0, r1, pb_gdD _ (by decide), pb_gdD _ k1, l1, i9, pb_gdT, cc, pb_gdD _ nr, pn_i4, im, pb_gdT, cm, (hm.1.2.2.2.2.1 p hp).1, pb_b1]
      have hnum : cl_dP_number (cl_r σ 31 p) σ = some (nI p) := by
        have e10 : cl_X10_number (cl_r σ 31 p) σ = some (nI p) := by
          unfold cl_X10_number
          rw [pb_gdD _ (by omega), g4]
        have h5 : pn_kd (pa_net S) p = 1 ∨ pn_kd (pa_net S) p = 2 ∨ pn_kd (pa_net S) p = 3 ∨ pn_kd (pa_net S) p = 4 ∨ pn_kd (pa_net S) p = 5 := by omega
        unfold cl_dP_number
        rw [e10, g3]
        rcases h5 with e | e | e | e | e <;> rw [e] <;> rfl
      have yes : pq_any (dx_bx (some (.inl (cl_r σ 31 p), σ)) (fun r10 σ10 => (dx_gd (decide (¬ r10 = 0)) (dx_b1 (cl_dP_number r10 σ10) fun r13 => (dx_gd (decide (cl_k σ10 19 = 0)) (dx_b2 (cl_X0_well 19 σ10 r13) fun r14 σ14 => (some (r14, σ14))))))) (fun x10 σ10 => (if x10 = 3 then (dx_gd (decide (cl_k σ10 19 = 0)) (dx_b2 (cl_X0_found 19 σ10 (3 : Int32)) fun r11 σ11 => (some (r11, σ11)))) else (none)))) (mo_as_J60 μ (nI p) true) := by
        rw [rt_bx, pb_gdD _ nr, hnum, pb_b1, pb_gdD _ x0]
        exact rs_well h hm (nI p)
      have no : pq_any (dx_bx (some ((.inr 3 : Nat ⊕ Nat), σ)) (fun r10 σ10 => (dx_gd (decide (¬ r10 = 0)) (dx_b1 (cl_dP_number r10 σ10) fun r13 => (dx_gd (decide (cl_k σ10 19 = 0)) (dx_b2 (cl_X0_well 19 σ10 r13) fun r14 σ14 => (some (r14, σ14))))))) (fun x10 σ10 => (if x10 = 3 then (dx_gd (decide (cl_k σ10 19 = 0)) (dx_b2 (cl_X0_found 19 σ10 (3 : Int32)) fun r11 σ11 => (some (r11, σ11)))) else (none)))) (mo_as_J60 μ (nI p) false) := by
        rw [rt_bxr, if_pos rfl, pb_gdD _ x0]
        exact rs_found h hm 3
      unfold mo_as_J45 cl_X0_taken
      rw [g3]
      have h5 : pn_kd (pa_net S) p = 1 ∨ pn_kd (pa_net S) p = 2 ∨ pn_kd (pa_net S) p = 3 ∨ pn_kd (pa_net S) p = 4 ∨ pn_kd (pa_net S) p = 5 := by omega
      have h6 : k = 0 ∨ k = 1 ∨ k = 2 ∨ k = 3 ∨ k = 4 ∨ k = 5 := by omega
      rcases h5 with e | e | e | e | e <;> rw [e] <;> rcases h6 with rfl | rfl | rfl | rfl | rfl | rfl <;> first | exact yes | exact no
end RW
/-- the least bit -/
theorem rw_ntz {x : Int32} {t : Nat} (ht : t < 31) (h1 : pb_bt x t = true) (h0 : ∀ e, e < t → pb_bt x e = false) : (x ^^^ (-1 : Int32)) &&& (x - (1 : Int32)) = nI (2 ^ t - 1) := by
  obtain ⟨X, hX⟩ : ∃ X, X = x.toBitVec.toNat := ⟨_, rfl⟩
  have tb : ∀ k, pb_bt x k = X.testBit k := by
    intro k
    rw [hX]
    unfold pb_bt BitVec.getLsbD
    rfl
  have hlt : X < 2 ^ 32 := by rw [hX]; exact x.toBitVec.isLt
  have hmod : X % 2 ^ (t + 1) = 2 ^ t := by
    apply Nat.eq_of_testBit_eq
    intro e
    rw [Nat.testBit_mod_two_pow, Nat.testBit_two_pow]
    by_cases he : e < t
    · rw [← tb, h0 e he]
      have : ¬ t = e := by omega
      simp [this]
    · by_cases he2 : e = t
      · subst he2
        rw [← tb, h1]
        simp
      · have a1 : ¬ e < t + 1 := by omega
        have a2 : ¬ t = e := by omega
        simp [a1, a2]
  have hq : X = 2 ^ (t + 1) * (X / 2 ^ (t + 1)) + 2 ^ t := by
    have := Nat.div_add_mod X (2 ^ (t + 1))
    omega
  have hp0 : 0 < 2 ^ t := Nat.pow_pos (by omega)
  have hps : 2 ^ (t + 1) = 2 * 2 ^ t := by rw [Nat.pow_succ]; omega
  have hsub : (x - (1 : Int32)).toBitVec.toNat = 2 ^ (t + 1) * (X / 2 ^ (t + 1)) + (2 ^ t - 1) := by
    rw [Int32.toBitVec_sub]
    have e1 : (1 : Int32).toBitVec = 1#32 := by decide
    rw [e1, BitVec.toNat_sub, ← hX]
    have e2 : (1#32).toNat = 1 := by decide
    rw [e2]
    omega
  apply pb_ext
  intro k hk
  have tb2 : pb_bt (x - (1 : Int32)) k = (2 ^ (t + 1) * (X / 2 ^ (t + 1)) + (2 ^ t - 1)).testBit k := by
    rw [← hsub]
    unfold pb_bt BitVec.getLsbD
    rfl
  have tx : pb_bt (x ^^^ (-1 : Int32)) k = !pb_bt x k := by
    unfold pb_bt
    rw [Int32.toBitVec_xor]
    have e1 : (-1 : Int32).toBitVec = BitVec.allOnes 32 := by decide
    rw [e1, BitVec.getLsbD_xor, BitVec.getLsbD_allOnes, decide_eq_true hk, Bool.xor_true]
  have hb : (2 ^ t - 1) < 2 ^ 31 := by
    have : 2 ^ t ≤ 2 ^ 30 := Nat.pow_le_pow_right (by omega) (by omega)
    omega
  rw [pb_and, tx, tb, tb2, pz_tb hb hk, Nat.testBit_two_pow_sub_one, Nat.testBit_two_pow_mul_add _ (by omega), Nat.testBit_two_pow_sub_one]
  have tX : X.testBit k = (2 ^ (t + 1) * (X / 2 ^ (t + 1)) + 2 ^ t).testBit k := by rw [← hq]
  rw [tX, Nat.testBit_two_pow_mul_add _ (by omega)]
  by_cases hkt : k < t + 1
  · rw [if_pos hkt, if_pos hkt, Nat.testBit_two_pow]
    by_cases h2 : k < t
    · have : ¬ t = k := by omega
      simp [h2, this]
    · simp [h2]
  · rw [if_neg hkt, if_neg hkt]
    have : ¬ k < t := by omega
    simp [this]
theorem rw_ntzv : ∀ t : Fin 31, ∀ x : Int32, ((x ^^^ (-1 : Int32)) &&& (x - (1 : Int32))) = nI (2 ^ t.val - 1) → cl_J17_numberOfTrailingZeros x = some (nI t.val) := by
  intro t x hx
  have key : ∀ t : Fin 31, (if 0 < nI (2 ^ t.val - 1) then if nI (2 ^ t.val - 1) ≤ 65536 then cl_J17_numberOfTrailingZeros_J34 (nI (2 ^ t.val - 1)) 1 else dx_let ((nI (2 ^ t.val - 1)).toUInt32 >>> ((16 : Int32).toUInt32 &&& Int32.toUInt32 31)).toInt32 fun x1 => cl_J17_numberOfTrailingZeros_J34 x1 ((1 : Int32) + (16 : Int32)) else some (nI (2 ^ t.val - 1) &&& 32)) = some (nI t.val) := by decide +kernel
  unfold cl_J17_numberOfTrailingZeros
  rw [hx]
  exact key t
/-- the first of some days; -1: none -/
def rw_first (x : Int32) (r : Int32) : Prop := (x = 0 ∧ r = -1) ∨ ∃ t, t < 31 ∧ pb_bt x t = true ∧ (∀ e, e < t → pb_bt x e = false) ∧ r = nI t
theorem rw_ex {x : Int32} (h : ∀ e, 31 ≤ e → pb_bt x e = false) : ∃ r, rw_first x r := by
  by_cases h0 : x = 0
  · exact ⟨-1, Or.inl ⟨h0, rfl⟩⟩
  · have key : ∀ n, (∀ e, e < n → pb_bt x e = false) ∨ ∃ t, t < n ∧ pb_bt x t = true ∧ ∀ e, e < t → pb_bt x e = false := by
      intro n
      induction n with
      | zero => exact Or.inl (fun e he => by omega)
      | succ n ih =>
        rcases ih with ih | ⟨t, g1, g2, g3⟩
        · cases hb : pb_bt x n with
          | true => exact Or.inr ⟨n, by omega, hb, ih⟩
          | false =>
            refine Or.inl (fun e he => ?_)
            by_cases hen : e = n
            · rw [hen]; exact hb
            · exact ih e (by omega)
        · exact Or.inr ⟨t, by omega, g2, g3⟩
    rcases key 31 with g | ⟨t, g1, g2, g3⟩
    · refine absurd ((pb_eq0 x).mpr fun k hk => ?_) h0
      by_cases hk2 : k < 31
      · exact g k hk2
      · exact h k (by omega)
    · exact ⟨nI t, Or.inr ⟨t, g1, g2, g3, rfl⟩⟩
theorem rw_u {x r s : Int32} (h1 : rw_first x r) (h2 : rw_first x s) : r = s := by
  rcases h1 with ⟨a1, a2⟩ | ⟨t, a1, a2, a3, a4⟩ <;> rcases h2 with ⟨b1, b2⟩ | ⟨u, b1, b2, b3, b4⟩
  · rw [a2, b2]
  · rw [a1, pb_bt0] at b2; cases b2
  · rw [b1, pb_bt0] at a2; cases a2
  · have : t = u := by
      rcases Nat.lt_trichotomy t u with g | g | g
      · rw [b3 t g] at a2; cases a2
      · exact g
      · rw [a3 u g] at b2; cases b2
    rw [a4, b4, this]
theorem rw_m {x r : Int32} (h : rw_first x r) : mo_firstOf x = some r := by
  unfold mo_firstOf
  have stp : ∀ i, i < 31 → pb_bt x i = false → mo_firstOf_L2 x (nI i) = some (.inl (nI (i + 1))) := by
    intro i hi hb
    have h31 : ¬ (31 : Int32) ≤ nI i := fun h => absurd ((pb_le (a := 31) (by omega) (by omega)).mp h) (by omega)
    unfold mo_firstOf_L2
    rw [if_neg h31, pn_m_has (by omega), pb_b1, hb, ← nI_succ]
    rfl
  rcases h with ⟨h0, hr⟩ | ⟨t, h1, h2, h3, hr⟩
  · have key := pb_lp (b := fun v : Int32 => mo_firstOf_L2 x v) (z := r) 31 (fun i => nI i) (fun i hi => stp i hi (by rw [h0, pb_bt0])) ?_ (by omega)
    · exact key
    · show mo_firstOf_L2 x (nI 31) = _
      unfold mo_firstOf_L2 mo_firstOf_J22
      rw [if_pos (by decide), if_pos (by decide), hr]
      rfl
  · have key := pb_lp (b := fun v : Int32 => mo_firstOf_L2 x v) (z := r) t (fun i => nI i) (fun i hi => stp i (by omega) (h3 i hi)) ?_ (by omega)
    · exact key
    · show mo_firstOf_L2 x (nI t) = _
      have h31 : ¬ (31 : Int32) ≤ nI t := fun h => absurd ((pb_le (a := 31) (by omega) (by omega)).mp h) (by omega)
      unfold mo_firstOf_L2 mo_firstOf_J22
      rw [if_neg h31, pn_m_has (by omega), pb_b1, h2, if_neg h31, hr]
      rfl
theorem rw_c {σ : cl_S} (hw : cl_k σ 44 = 3 ∧ cl_r σ 44 0 = 45 ∧ cl_k σ 45 = 20 ∧ cl_l σ 45 = 9) {p : Nat} (hp : p < 9) {r : Int32} (h : rw_first (cl_i σ 45 p) r) : cl_X3_first 44 σ (nI p) = some r := by
  have i9 : dx_inb (nI p) 9 = true := by rw [pb_inb (by omega), decide_eq_true (by omega)]
  have cc : (nI p).toNatClampNeg = p := nI_clamp (by omega)
  unfold cl_X3_first
  rw [pb_gdD _ hw.1, hw.2.1, pb_gdD _ (by decide), pb_gdD _ hw.2.2.1, hw.2.2.2, i9, pb_gdT, cc]
  rcases h with ⟨h0, hr⟩ | ⟨t, h1, h2, h3, hr⟩
  · rw [if_pos h0, hr]
  · have hn : ¬ cl_i σ 45 p = 0 := fun e => by rw [e, pb_bt0] at h2; cases h2
    rw [if_neg hn, pb_gdD _ (by decide), pb_gdT, rw_ntzv ⟨t, h1⟩ _ (rw_ntz h1 h2 h3), hr]
    rfl
