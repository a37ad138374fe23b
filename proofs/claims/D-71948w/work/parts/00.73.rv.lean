/-! copy -/
section RV
variable {σ : cl_S} {μ : mo_S} {S : pa_S}
theorem rv_part {j len : Nat} (hj : j < 8) (hl : len ≤ 40) (h1 : μ.2 1 j = nI len) (v w : Int32) : mo_isPart μ (nI j) v w = some (decide (¬ v < 0 ∧ ¬ w < 0 ∧ v.toNatClampNeg + w.toNatClampNeg ≤ len)) := by
  have i8 : dx_inb (nI j) 8 = true := by rw [pb_inb (by omega), decide_eq_true (by omega)]
  have cc : (nI j).toNatClampNeg = j := nI_clamp (by omega)
  unfold mo_isPart
  by_cases hv : v < 0
  · rw [if_pos hv, decide_eq_false (fun h => h.1 hv)]
  rw [if_neg hv]
  by_cases hw : w < 0
  · rw [if_pos hw, decide_eq_false (fun h => h.2.1 hw)]
  rw [if_neg hw, i8, pb_gdT, pb_gdT, cc, h1]
  obtain ⟨a, ha, rfl⟩ := pb_of hv
  obtain ⟨b, hb, rfl⟩ := pb_of hw
  rw [nI_clamp ha, nI_clamp hb]
  by_cases g1 : len < a
  · rw [if_pos ((pb_lt (by omega) ha).mpr g1), decide_eq_false (fun h => by omega)]
  · rw [if_neg (fun h => g1 ((pb_lt (by omega) ha).mp h)), pb_sub (by omega)]
    by_cases g2 : len - a < b
    · rw [if_pos ((pb_lt (by omega) hb).mpr g2), decide_eq_false (fun h => by omega)]
    · rw [if_neg (fun h => g2 ((pb_lt (by omega) hb).mp h)), decide_eq_true ⟨hv, hw, by omega⟩]
def rv_sp (f g : Nat → Int32) (p : Nat) (i : Nat) : Nat → Int32 := va_cpy f g p 0 i
theorem rv_cs (f g : Nat → Int32) (p q i : Nat) : upd (va_cpy f g p q i) (q + i) (f (p + i)) = va_cpy f g p q (i + 1) := by
  funext m
  unfold upd va_cpy
  by_cases hm : m = q + i
  · rw [if_pos hm, if_pos (by omega), hm, show q + i - q = i by omega]
  · rw [if_neg hm]
    by_cases h2 : q ≤ m ∧ m < q + i
    · rw [if_pos h2, if_pos (by omega)]
    · rw [if_neg h2, if_neg (by omega)]
theorem rv_c0 (f g : Nat → Int32) (p q : Nat) : va_cpy f g p q 0 = g := by
  funext m
  unfold va_cpy
  rw [if_neg (by omega)]
/-- the Model's copying -/
theorem rv_mcp {a b i j n : Nat} (ha : a < 8) (hb : b < 8) (hi : i + n ≤ 40) (hj : j + n ≤ 40) : dx_lp (fun x : Int32 × mo_S => mo_copy_L92 x.2 (nI a) (nI i) (nI b) (nI j) (nI n) x.1) dx_fu ((0 : Int32), μ) = some (nI n, mo_I (μ.1, va_up (va_up μ.2 3 (va_cpy (μ.2 2) (μ.2 3) (40 * a + i) 0 n)) 2 (va_cpy (va_cpy (μ.2 2) (μ.2 3) (40 * a + i) 0 n) (μ.2 2) 0 (40 * b + j) n)) 0 0) := by
  obtain ⟨M1, hM1⟩ : ∃ M1 : Nat → mo_S, M1 = fun k => (μ.1, va_up μ.2 3 (va_cpy (μ.2 2) (μ.2 3) (40 * a + i) 0 k)) := ⟨_, rfl⟩
  obtain ⟨M2, hM2⟩ : ∃ M2 : Nat → mo_S, M2 = fun k => (μ.1, va_up (va_up μ.2 3 (va_cpy (μ.2 2) (μ.2 3) (40 * a + i) 0 n)) 2 (va_cpy (va_cpy (μ.2 2) (μ.2 3) (40 * a + i) 0 n) (μ.2 2) 0 (40 * b + j) k)) := ⟨_, rfl⟩
  have e40 : ∀ r s k : Nat, (40 : Int32) * nI r + nI s + nI k = nI (40 * r + s + k) := by
    intro r s k
    rw [show (40 : Int32) = nI 40 from rfl, pb_mul, pb_add, pb_add]
  have E1 : M1 0 = μ := by
    rw [hM1]
    refine Prod.ext rfl ?_
    funext k
    show va_up μ.2 3 (va_cpy (μ.2 2) (μ.2 3) (40 * a + i) 0 0) k = _
    rw [rv_c0]
    unfold va_up
    split
    · rename_i e; rw [e]
    · rfl
  have E2 : M2 0 = M1 n := by
    rw [hM1, hM2]
    refine Prod.ext rfl ?_
    funext k
    show va_up (va_up μ.2 3 (va_cpy (μ.2 2) (μ.2 3) (40 * a + i) 0 n)) 2 (va_cpy (va_cpy (μ.2 2) (μ.2 3) (40 * a + i) 0 n) (μ.2 2) 0 (40 * b + j) 0) k = va_up μ.2 3 (va_cpy (μ.2 2) (μ.2 3) (40 * a + i) 0 n) k
    rw [rv_c0]
    unfold va_up
    by_cases q : k = 2
    · rw [if_pos q, q]; rfl
    · rw [if_neg q]
  have hloop2 : dx_lp (fun x : Int32 × mo_S => mo_copy_L129 x.2 (nI b) (nI j) (nI n) x.1) dx_fu ((0 : Int32), M1 n) = some (nI n, mo_I (M2 n) 0 0) := by
    have key := pb_lp (b := fun x : Int32 × mo_S => mo_copy_L129 x.2 (nI b) (nI j) (nI n) x.1) (z := (nI n, mo_I (M2 n) 0 0)) n (fun k => (nI k, M2 k)) (fun k hk => ?_) ?_ (by omega)
    · rw [E2] at key
      exact key
    · show mo_copy_L129 (M2 k) (nI b) (nI j) (nI n) (nI k) = some (.inl (nI (k + 1), M2 (k + 1)))
      have hle : ¬ nI n ≤ nI k := fun h => absurd ((pb_le (by omega) (by omega)).mp h) (by omega)
      unfold mo_copy_L129
      rw [if_neg hle, e40, pn_gdi _ (by omega) (by omega), pn_gdi _ (by omega) (by omega), nI_clamp (by omega), nI_clamp (by omega), ← nI_succ]
      congr 3
      rw [hM2]
      refine Prod.ext rfl ?_
      funext m
      have q3 : va_up (va_up μ.2 3 (va_cpy (μ.2 2) (μ.2 3) (40 * a + i) 0 n)) 2 (va_cpy (va_cpy (μ.2 2) (μ.2 3) (40 * a + i) 0 n) (μ.2 2) 0 (40 * b + j) k) 3 = va_cpy (μ.2 2) (μ.2 3) (40 * a + i) 0 n := by
        rw [va_up_ne _ _ (by decide), va_up_self]
      show va_up (va_up (va_up μ.2 3 (va_cpy (μ.2 2) (μ.2 3) (40 * a + i) 0 n)) 2 (va_cpy (va_cpy (μ.2 2) (μ.2 3) (40 * a + i) 0 n) (μ.2 2) 0 (40 * b + j) k)) 2 (upd (va_up (va_up μ.2 3 (va_cpy (μ.2 2) (μ.2 3) (40 * a + i) 0 n)) 2 (va_cpy (va_cpy (μ.2 2) (μ.2 3) (40 * a + i) 0 n) (μ.2 2) 0 (40 * b + j) k) 2) (40 * b + j + k) (va_up (va_up μ.2 3 (va_cpy (μ.2 2) (μ.2 3) (40 * a + i) 0 n)) 2 (va_cpy (va_cpy (μ.2 2) (μ.2 3) (40 * a + i) 0 n) (μ.2 2) 0 (40 * b + j) k) 3 k)) m = va_up (va_up μ.2 3 (va_cpy (μ.2 2) (μ.2 3) (40 * a + i) 0 n)) 2 (va_cpy (va_cpy (μ.2 2) (μ.2 3) (40 * a + i) 0 n) (μ.2 2) 0 (40 * b + j) (k + 1)) m
      rw [q3, va_up_self]
      have hs := rv_cs (va_cpy (μ.2 2) (μ.2 3) (40 * a + i) 0 n) (μ.2 2) 0 (40 * b + j) k
      rw [Nat.zero_add] at hs
      rw [hs]
      unfold va_up
      split <;> rfl
    · show mo_copy_L129 (M2 n) (nI b) (nI j) (nI n) (nI n) = _
      unfold mo_copy_L129
      rw [if_pos ((pb_le (by omega) (by omega)).mpr (Nat.le_refl _))]
      rfl
  have key := pb_lp (b := fun x : Int32 × mo_S => mo_copy_L92 x.2 (nI a) (nI i) (nI b) (nI j) (nI n) x.1) (z := (nI n, mo_I (M2 n) 0 0)) n (fun k => (nI k, M1 k)) (fun k hk => ?_) ?_ (by omega)
  · rw [E1] at key
    rw [hM2] at key
    exact key
  · show mo_copy_L92 (M1 k) (nI a) (nI i) (nI b) (nI j) (nI n) (nI k) = some (.inl (nI (k + 1), M1 (k + 1)))
    have hle : ¬ nI n ≤ nI k := fun h => absurd ((pb_le (by omega) (by omega)).mp h) (by omega)
    unfold mo_copy_L92
    rw [if_neg hle, e40, pn_gdi _ (by omega) (by omega), pn_gdi _ (by omega) (by omega), nI_clamp (by omega), nI_clamp (by omega), ← nI_succ]
    congr 3
    rw [hM1]
    refine Prod.ext rfl ?_
    funext m
    have q2 : va_up μ.2 3 (va_cpy (μ.2 2) (μ.2 3) (40 * a + i) 0 k) 2 = μ.2 2 := va_up_ne _ _ (by decide)
    show va_up (va_up μ.2 3 (va_cpy (μ.2 2) (μ.2 3) (40 * a + i) 0 k)) 3 (upd (va_up μ.2 3 (va_cpy (μ.2 2) (μ.2 3) (40 * a + i) 0 k) 3) k (va_up μ.2 3 (va_cpy (μ.2 2) (μ.2 3) (40 * a + i) 0 k) 2 (40 * a + i + k))) m = va_up μ.2 3 (va_cpy (μ.2 2) (μ.2 3) (40 * a + i) 0 (k + 1)) m
    rw [q2, va_up_self]
    have hs := rv_cs (μ.2 2) (μ.2 3) (40 * a + i) 0 k
    rw [Nat.zero_add] at hs
    rw [hs]
    unfold va_up
    split <;> rfl
  · show mo_copy_L92 (M1 n) (nI a) (nI i) (nI b) (nI j) (nI n) (nI n) = _
    unfold mo_copy_L92
    rw [if_pos ((pb_le (by omega) (by omega)).mpr (Nat.le_refl _)), hloop2]
    rfl
theorem rv_lk {a b : Nat} (ha : a ≤ 2) (hb : b ≤ 2) : pr_lk a = pr_lk b ↔ a = b := by
  have h1 : a = 0 ∨ a = 1 ∨ a = 2 := by omega
  have h2 : b = 0 ∨ b = 1 ∨ b = 2 := by omega
  rcases h1 with rfl | rfl | rfl <;> rcases h2 with rfl | rfl | rfl <;> decide
theorem rv_num {a : Nat} (ha : a ≤ 2) : cx_num (pr_lk a) := by
  have h1 : a = 0 ∨ a = 1 ∨ a = 2 := by omega
  rcases h1 with rfl | rfl | rfl <;> decide
theorem rv_copy (h : pc_R σ S) (hm : pm_R μ S) (v w x y z : Int32) : pq_any (cl_X0_copy 19 σ v w x y z) (mo_copy μ v w x y z) := by
  have bad : pq_any (some ((-1000001 : Int32), σ)) (some ((-1000001 : Int32), μ)) := ⟨S, _, _, _, rfl, rfl, h, hm⟩
  unfold cl_X0_copy mo_copy mo_copy_J33 mo_copy_J83
  rw [rt_cR, rt_mR, rt_cR, rt_mR]
  simp only [pb_b1]
  cases hv : pq_in v 0 (nI 7) with
  | false => exact bad
  | true =>
    simp only [pb_ibT]
    cases hx : pq_in x 0 (nI 7) with
    | false => exact bad
    | true =>
      simp only [pb_ibT]
      obtain ⟨a, ha7, rfl⟩ := (pq_le (by omega)).mp hv
      obtain ⟨b, hb7, rfl⟩ := (pq_le (by omega)).mp hx
      have ha : a < 8 := by omega
      have hb : b < 8 := by omega
      obtain ⟨x0, x1, k20, l20, r20⟩ := rs_20 h
      obtain ⟨ra, ka⟩ := r20 a ha
      obtain ⟨rb, kb⟩ := r20 b hb
      have i8 : dx_inb (nI a) 8 = true := by rw [pb_inb (by omega), decide_eq_true (by omega)]
      have i8b : dx_inb (nI b) 8 = true := by rw [pb_inb (by omega), decide_eq_true (by omega)]
      have cc : (nI a).toNatClampNeg = a := nI_clamp (by omega)
      have cb : (nI b).toNatClampNeg = b := nI_clamp (by omega)
      rw [rt_miss hm h ha, rt_miss hm h hb]
      simp only [pb_b1, x0, x1, k20, l20, i8, i8b, cc, cb, ra, rb, ka, kb, pb_gdT, decide_true]
      have z20 : decide (¬ (20 : Nat) = 0) = true := by decide
      have za : decide (¬ 21 + a = 0) = true := decide_eq_true (by omega)
      have zb : decide (¬ 21 + b = 0) = true := decide_eq_true (by omega)
      rw [z20, za, zb]
      simp only [pb_gdT]
      by_cases ha0 : cl_r σ (21 + a) 0 = 0
      · rw [if_pos ha0, decide_eq_true ha0, pb_ibT]
        split <;> exact rs_found h hm 1
      rw [if_neg ha0, decide_eq_false ha0, pb_ibF]
      by_cases hb0 : cl_r σ (21 + b) 0 = 0
      · rw [if_pos hb0, decide_eq_true hb0, pb_ibT]
        exact rs_found h hm 1
      rw [if_neg hb0, decide_eq_false hb0, pb_ibF]
      rcases h.2.2.2.2.2.1 a ha with ⟨-, g⟩ | ⟨la, na, fa, q1, q2, q3, q4, q5, q6, q7⟩
      · exact absurd g ha0
      rcases h.2.2.2.2.2.1 b hb with ⟨-, g⟩ | ⟨lb, nb, fb, s1, s2, s3, s4, s5, s6, s7⟩
      · exact absurd g hb0
      rcases hm.2.2.2.1 a ha with ⟨g, -⟩ | ⟨_, _, _, g, u1, u2, u3⟩
      · rw [q1] at g; cases g
      rw [q1] at g
      cases g
      rcases hm.2.2.2.1 b hb with ⟨g, -⟩ | ⟨_, _, _, g, t1, t2, t3⟩
      · rw [s1] at g; cases g
      rw [s1] at g
      cases g
      rw [q5, s5, q6, s6, pb_gdD _ ⟨rv_num q2, rv_num s2, by omega, by omega⟩, u1, t1]
      by_cases hl : la = lb
      · subst hl
        rw [if_pos rfl, if_pos rfl, rv_part ha q3 u2, pb_b1, rv_part hb s3 t2, pb_b1]
        have hcg : cl_cg σ (cl_r σ (21 + a) 0) (cl_r σ (21 + b) 0) w y z = (decide (¬ w < 0 ∧ ¬ z < 0 ∧ w.toNatClampNeg + z.toNatClampNeg ≤ na) && decide (¬ y < 0 ∧ ¬ z < 0 ∧ y.toNatClampNeg + z.toNatClampNeg ≤ nb)) := by
          unfold cl_cg
          rw [q6, s6, ← Bool.decide_and]
          congr 1
          apply propext
          constructor
          · rintro ⟨a1, a2, a3, a4, a5⟩
            exact ⟨⟨a1, a3, a4⟩, a2, a3, a5⟩
          · rintro ⟨⟨a1, a3, a4⟩, a2, -, a5⟩
            exact ⟨a1, a2, a3, a4, a5⟩
        rw [hcg]
        cases hp1 : decide (¬ w < 0 ∧ ¬ z < 0 ∧ w.toNatClampNeg + z.toNatClampNeg ≤ na) with
        | false => exact rs_found h hm 2
        | true =>
          simp only [pb_ibT, Bool.true_and]
          cases hp2 : decide (¬ y < 0 ∧ ¬ z < 0 ∧ y.toNatClampNeg + z.toNatClampNeg ≤ nb) with
          | false => exact rs_found h hm 2
          | true =>
            simp only [pb_ibT]
            obtain ⟨hw0, hz0, hwz⟩ := of_decide_eq_true hp1
            obtain ⟨hy0, -, hyz⟩ := of_decide_eq_true hp2
            obtain ⟨i, hi31, rfl⟩ := pb_of hw0
            obtain ⟨j, hj31, rfl⟩ := pb_of hy0
            obtain ⟨n, hn31, rfl⟩ := pb_of hz0
            rw [nI_clamp hi31, nI_clamp hn31] at hwz
            rw [nI_clamp hj31, nI_clamp hn31] at hyz
            rw [nI_clamp hi31, nI_clamp hn31, rv_mcp ha hb (by omega) (by omega)]
            have hcf : cl_cf (cx_ty (pr_lk la)) (cl_i σ (cl_r σ (21 + a) 0)) i n = true := by
              unfold cl_cf
              rw [List.all_eq_true]
              intro k hk
              have hk' := List.mem_range.mp hk
              have := q7 (i + k) (by omega)
              rw [this.1]
              exact this.2
            rw [hcf, pb_gdT]
            have ecp : cl_cp σ (cl_r σ (21 + a) 0) (cl_r σ (21 + b) 0) (nI i) (nI j) (nI n) = cl_si σ (cl_r σ (21 + b) 0) (va_cpy (cl_i σ (cl_r σ (21 + a) 0)) (cl_i σ (cl_r σ (21 + b) 0)) i j n) := by
              unfold cl_cp
              rw [nI_clamp hi31, nI_clamp hj31, nI_clamp hn31]
            rw [ecp]
            have hR := rs_int h hb (g := va_cpy (cl_i σ (cl_r σ (21 + a) 0)) (cl_i σ (cl_r σ (21 + b) 0)) i j n) s1 (fun k hk => ⟨rfl, by
              unfold va_cpy
              split
              · rename_i hc
                have := q7 (i + (k - j)) (by omega)
                rw [this.1]; exact this.2
              · rw [(s7 k hk).1]; exact (s7 k hk).2⟩)
            rw [rs_cw hR, pb_b2]
            refine ⟨_, nI n, _, _, rfl, rfl, rs_st hR 0, rs_mst ?_ 0⟩
            have w2 : va_up (va_up μ.2 3 (va_cpy (μ.2 2) (μ.2 3) (40 * a + i) 0 n)) 2 (va_cpy (va_cpy (μ.2 2) (μ.2 3) (40 * a + i) 0 n) (μ.2 2) 0 (40 * b + j) n) 2 = va_cpy (va_cpy (μ.2 2) (μ.2 3) (40 * a + i) 0 n) (μ.2 2) 0 (40 * b + j) n := va_up_self _ _ _
            have wk : ∀ k, k ≠ 2 → k ≠ 3 → va_up (va_up μ.2 3 (va_cpy (μ.2 2) (μ.2 3) (40 * a + i) 0 n)) 2 (va_cpy (va_cpy (μ.2 2) (μ.2 3) (40 * a + i) 0 n) (μ.2 2) 0 (40 * b + j) n) k = μ.2 k := by
              intro k g1 g2
              rw [va_up_ne _ _ g1, va_up_ne _ _ g2]
            have hw : ∀ k m, ((μ.1, va_up (va_up μ.2 3 (va_cpy (μ.2 2) (μ.2 3) (40 * a + i) 0 n)) 2 (va_cpy (va_cpy (μ.2 2) (μ.2 3) (40 * a + i) 0 n) (μ.2 2) 0 (40 * b + j) n)) : mo_S).2 k m = va_up (va_up μ.2 3 (va_cpy (μ.2 2) (μ.2 3) (40 * a + i) 0 n)) 2 (va_cpy (va_cpy (μ.2 2) (μ.2 3) (40 * a + i) 0 n) (μ.2 2) 0 (40 * b + j) n) k m := fun _ _ => rfl
            refine rt_mrow (ν := (μ.1, va_up (va_up μ.2 3 (va_cpy (μ.2 2) (μ.2 3) (40 * a + i) 0 n)) 2 (va_cpy (va_cpy (μ.2 2) (μ.2 3) (40 * a + i) 0 n) (μ.2 2) 0 (40 * b + j) n))) hm rfl (fun k hk => wk k (by omega) (by omega)) hb (Or.inr ⟨la, nb, _, rfl, ?_, ?_, fun k hk => ?_⟩) (fun m hm8 hmb => ?_)
            · rw [hw, wk 0 (by decide) (by decide)]; exact t1
            · rw [hw, wk 1 (by decide) (by decide)]; exact t2
            · rw [hw, w2]
              unfold va_cpy
              by_cases hc : j ≤ k ∧ k < j + n
              · rw [if_pos (by omega), if_pos (by omega), if_pos hc, show 40 * a + i + (0 + (40 * b + k - (40 * b + j)) - 0) = 40 * a + (i + (k - j)) by omega, u3 _ (by omega), (q7 _ (by omega)).1]
              · rw [if_neg (by omega), if_neg hc, t3 k hk, (s7 k hk).1]
            · have hq := hm.2.2.2.1 m hm8
              unfold pm_row at hq ⊢
              have e0 : ((μ.1, va_up (va_up μ.2 3 (va_cpy (μ.2 2) (μ.2 3) (40 * a + i) 0 n)) 2 (va_cpy (va_cpy (μ.2 2) (μ.2 3) (40 * a + i) 0 n) (μ.2 2) 0 (40 * b + j) n)) : mo_S).2 0 = μ.2 0 := wk 0 (by decide) (by decide)
              have e1 : ((μ.1, va_up (va_up μ.2 3 (va_cpy (μ.2 2) (μ.2 3) (40 * a + i) 0 n)) 2 (va_cpy (va_cpy (μ.2 2) (μ.2 3) (40 * a + i) 0 n) (μ.2 2) 0 (40 * b + j) n)) : mo_S).2 1 = μ.2 1 := wk 1 (by decide) (by decide)
              rw [e0, e1]
              rcases hq with hq | ⟨lane', len', f', z1, z2, z3, z4⟩
              · exact Or.inl hq
              · refine Or.inr ⟨lane', len', f', z1, z2, z3, fun k hk => ?_⟩
                have hl' : len' ≤ 40 := by
                  rcases h.2.2.2.2.2.1 m hm8 with ⟨g, -⟩ | ⟨_, _, _, g, -, g3, -⟩
                  · rw [z1] at g; cases g
                  · rw [z1] at g; cases g; exact g3
                rw [hw, w2]
                unfold va_cpy
                rw [if_neg (by omega)]
                exact z4 k hk
      · have hne : ¬ pr_lk la = pr_lk lb := fun e => hl ((rv_lk q2 s2).mp e)
        rw [if_neg hne, if_neg (fun e => hl ((pb_inj (by omega) (by omega)).mp e))]
        exact rs_found h hm 5
end RV
