/-! row, set, drop, feed -/
theorem rt_bx {ρ α : Type} (r : ρ) (σ : cl_S) (f : ρ → cl_S → Option α) (g : Nat → cl_S → Option α) : dx_bx (some (.inl r, σ)) f g = f r σ := rfl
theorem rt_bxr {ρ α : Type} (x : Nat) (σ : cl_S) (f : ρ → cl_S → Option α) (g : Nat → cl_S → Option α) : dx_bx (some (.inr x, σ)) f g = g x σ := rfl
theorem rt_shG (v : Int32) (k : Nat) (hk : k = 16 ∨ k = 24) : ((v <<< (nI k &&& 31)) >>> (nI k &&& 31)).toBitVec = (v.toBitVec <<< k).sshiftRight k := by
  rcases hk with rfl | rfl
  · have h1 : nI 16 &&& 31 = 16 := by decide
    have h2 : (16 : Int32).toBitVec.smod 32 = 16#32 := by decide
    rw [h1, Int32.toBitVec_shiftRight, Int32.toBitVec_shiftLeft, h2]
    rfl
  · have h1 : nI 24 &&& 31 = 24 := by decide
    have h2 : (24 : Int32).toBitVec.smod 32 = 24#32 := by decide
    rw [h1, Int32.toBitVec_shiftRight, Int32.toBitVec_shiftLeft, h2]
    rfl
theorem rt_sh8 (v : Int32) : ((v <<< ((24 : Int32) &&& 31)) >>> ((24 : Int32) &&& 31)) = v.toInt8.toInt32 := by
  apply Int32.toBitVec_inj.mp
  have h := rt_shG v 24 (Or.inr rfl)
  refine Eq.trans h ?_
  rw [Int8.toBitVec_toInt32, Int32.toBitVec_toInt8]
  apply BitVec.eq_of_getLsbD_eq
  intro i hi
  have h2 : ¬ 32 ≤ i := by omega
  rw [BitVec.getLsbD_sshiftRight, BitVec.getLsbD_signExtend]
  by_cases h8 : i < 8
  · have h1 : 24 + i < 32 := by omega
    have h3 : ¬ 24 + i < 24 := by omega
    have h4 : 24 + i - 24 = i := by omega
    rw [if_pos h1, if_pos h8, BitVec.getLsbD_shiftLeft, BitVec.getLsbD_signExtend, if_pos hi, decide_eq_true h1, decide_eq_false h3, h4, decide_eq_false h2, decide_eq_true hi, decide_eq_true h8]
    rfl
  · have h1 : ¬ 24 + i < 32 := by omega
    rw [if_neg h1, if_neg h8, BitVec.msb_eq_getLsbD_last, BitVec.msb_eq_getLsbD_last, BitVec.getLsbD_shiftLeft, BitVec.getLsbD_signExtend, decide_eq_false h2, decide_eq_true hi]
    rfl
theorem rt_sh16 (v : Int32) : ((v <<< ((16 : Int32) &&& 31)) >>> ((16 : Int32) &&& 31)) = v.toInt16.toInt32 := by
  apply Int32.toBitVec_inj.mp
  have h := rt_shG v 16 (Or.inl rfl)
  refine Eq.trans h ?_
  rw [Int16.toBitVec_toInt32, Int32.toBitVec_toInt16]
  apply BitVec.eq_of_getLsbD_eq
  intro i hi
  have h2 : ¬ 32 ≤ i := by omega
  rw [BitVec.getLsbD_sshiftRight, BitVec.getLsbD_signExtend]
  by_cases h8 : i < 16
  · have h1 : 16 + i < 32 := by omega
    have h3 : ¬ 16 + i < 16 := by omega
    have h4 : 16 + i - 16 = i := by omega
    rw [if_pos h1, if_pos h8, BitVec.getLsbD_shiftLeft, BitVec.getLsbD_signExtend, if_pos hi, decide_eq_true h1, decide_eq_false h3, h4, decide_eq_false h2, decide_eq_true hi, decide_eq_true h8]
    rfl
  · have h1 : ¬ 16 + i < 32 := by omega
    rw [if_neg h1, if_neg h8, BitVec.msb_eq_getLsbD_last, BitVec.msb_eq_getLsbD_last, BitVec.getLsbD_shiftLeft, BitVec.getLsbD_signExtend, decide_eq_false h2, decide_eq_true hi]
    rfl
/-- what a lane takes of a number -/
def rt_lw (lane : Nat) (v : Int32) : Int32 := if lane = 0 then v.toInt8.toInt32 else if lane = 1 then v.toInt16.toInt32 else v
theorem rt_low {lane : Nat} (hl : lane ≤ 2) (v : Int32) : mo_lowest (nI lane) v = some (rt_lw lane v) := by
  have h3 : lane = 0 ∨ lane = 1 ∨ lane = 2 := by omega
  unfold mo_lowest rt_lw
  rcases h3 with rfl | rfl | rfl
  · rw [if_pos (by decide), rt_sh8]
    rfl
  · rw [if_neg (by decide), if_pos (by decide), rt_sh16]
    rfl
  · rw [if_neg (by decide), if_neg (by decide)]
    rfl
theorem rt_fits {lane : Nat} (hl : lane ≤ 2) (v : Int32) : pr_fit lane (rt_lw lane v) := by
  have h3 : lane = 0 ∨ lane = 1 ∨ lane = 2 := by omega
  unfold pr_fit rt_lw pr_lk cx_ty
  rcases h3 with rfl | rfl | rfl
  · show (decide ((-128 : Int32) ≤ v.toInt8.toInt32) && decide (v.toInt8.toInt32 ≤ 127)) = true
    have h1 := Int8.le_toInt v.toInt8
    have h2 := Int8.toInt_lt v.toInt8
    rw [Bool.and_eq_true, decide_eq_true_iff, decide_eq_true_iff, Int32.le_iff_toInt_le, Int32.le_iff_toInt_le, Int8.toInt_toInt32, show (-128 : Int32).toInt = -128 by decide, show (127 : Int32).toInt = 127 by decide]
    omega
  · show (decide ((-32768 : Int32) ≤ v.toInt16.toInt32) && decide (v.toInt16.toInt32 ≤ 32767)) = true
    have h1 := Int16.le_toInt v.toInt16
    have h2 := Int16.toInt_lt v.toInt16
    rw [Bool.and_eq_true, decide_eq_true_iff, decide_eq_true_iff, Int32.le_iff_toInt_le, Int32.le_iff_toInt_le, Int16.toInt_toInt32, show (-32768 : Int32).toInt = -32768 by decide, show (32767 : Int32).toInt = 32767 by decide]
    omega
  · rfl
section RT
variable {σ : cl_S} {μ : mo_S} {S : pa_S}
theorem rt_cR (v : Int32) : cl_X0_isRow v = some (pq_in v 0 (nI 7)) := by
  have : cl_X0_isIn v.toInt64 (0 : Int64) (7 : Int64) = some (pq_in v 0 (nI 7)) := pq_c v 0 7
  unfold cl_X0_isRow
  rw [this]
  rfl
theorem rt_mR (v : Int32) : mo_isRow v = some (pq_in v 0 (nI 7)) := by
  have : mo_in v (0 : Int32) (7 : Int32) = some (pq_in v 0 (nI 7)) := pq_m v 0 7
  unfold mo_isRow
  rw [this]
  rfl
/-- the Model's rows but one stay -/
theorem rt_mrow (hm : pm_R μ S) {ν : mo_S} (h1 : ν.1 = μ.1) (h2 : ∀ k, 4 ≤ k → ν.2 k = μ.2 k) {j : Nat} (hj : j < 8) {r : Option (Nat × Nat × (Nat → Int32))} (hr : pm_row ν j r) (ho : ∀ i, i < 8 → i ≠ j → pm_row ν i (pa_row S i)) : pm_R ν (pa_srow S j r) := by
  obtain ⟨m1, m2, m3, m4, m5, m6, m7⟩ := hm
  refine ⟨by rw [h2 5 (by decide)]; exact m1, by rw [h1, h2 8 (by decide)]; exact m2, fun i hi => ?_, fun i hi => ?_, by rw [h1, h2 4 (by decide)]; exact m5, by rw [h1]; exact m6, by rw [h1, h2 16 (by decide)]; exact m7⟩
  · unfold pm_img
    rw [h2 10 (by decide), h2 9 (by decide)]
    exact m3 i hi
  · show pm_row ν i (va_up S.2.2.1 j r i)
    by_cases hij : i = j
    · rw [hij, va_up_self]; exact hr
    · rw [va_up_ne _ _ hij]; exact ho i hi hij
theorem rt_miss (hm : pm_R μ S) (h : pc_R σ S) {j : Nat} (hj : j < 8) : mo_isMissing μ (nI j) = some (decide (cl_r σ (21 + j) 0 = 0)) := by
  unfold mo_isMissing
  rw [pn_gdi _ hj (by omega), nI_clamp (by omega)]
  rcases h.2.2.2.2.2.1 j hj with ⟨q1, q2⟩ | ⟨lane, len, f, q1, q2, q3, q4, -⟩
  · rcases hm.2.2.2.1 j hj with ⟨-, g2⟩ | ⟨_, _, _, g1, -⟩
    · rw [if_pos g2, decide_eq_true q2]
    · rw [q1] at g1; cases g1
  · rcases hm.2.2.2.1 j hj with ⟨g1, -⟩ | ⟨lane', len', f', g1, g2, -⟩
    · rw [q1] at g1; cases g1
    · rw [q1] at g1
      cases g1
      rw [g2, if_neg (pr_nN (by omega)), decide_eq_false q4]
theorem rt_drop (h : pc_R σ S) (hm : pm_R μ S) (v : Int32) : pq_any (cl_X0_drop 19 σ v) (mo_drop μ v) := by
  have bad : pq_any (some ((-1000001 : Int32), σ)) (some ((-1000001 : Int32), μ)) := ⟨S, _, _, _, rfl, rfl, h, hm⟩
  unfold cl_X0_drop mo_drop
  rw [rt_cR, rt_mR]
  simp only [pb_b1]
  cases hv : pq_in v 0 (nI 7) with
  | false => exact bad
  | true =>
    obtain ⟨j, hj7, rfl⟩ := (pq_le (by omega)).mp hv
    have hj : j < 8 := by omega
    obtain ⟨x0, x1, k20, l20, r20⟩ := rs_20 h
    obtain ⟨r1, k1⟩ := r20 j hj
    have i8 : dx_inb (nI j) 8 = true := by rw [pb_inb (by omega), decide_eq_true (by omega)]
    have cc : (nI j).toNatClampNeg = j := nI_clamp (by omega)
    simp only [pb_ibT]
    rw [rt_miss hm h hj, pb_b1, pb_gdD _ x0, x1, pb_gdD _ (by decide), pb_gdD _ k20, l20, i8, pb_gdT, cc, r1, pb_gdD _ (by omega), pb_gdD _ k1]
    have tail : ∀ (s : Int32) (r : Int32), pc_R (cl_wi σ 19 12 s) (pa_sst S s) → (dx_gd (decide (cl_k (cl_wi σ 19 12 s) 19 = 0)) (dx_gd (decide (¬ (cl_r (cl_wi σ 19 12 s) 19 0) = 0)) (dx_gd (decide (cl_k (cl_wi σ 19 12 s) (cl_r (cl_wi σ 19 12 s) 19 0) = 24)) (dx_gd (dx_inb (nI j) (cl_l (cl_wi σ 19 12 s) (cl_r (cl_wi σ 19 12 s) 19 0))) (dx_gd (decide (¬ (cl_r (cl_wi σ 19 12 s) (cl_r (cl_wi σ 19 12 s) 19 0) j) = 0)) (dx_gd (decide (cl_k (cl_wi σ 19 12 s) (cl_r (cl_wi σ 19 12 s) (cl_r (cl_wi σ 19 12 s) 19 0) j) = 1)) (dx_let (cl_wr (cl_wi σ 19 12 s) (cl_r (cl_wi σ 19 12 s) (cl_r (cl_wi σ 19 12 s) 19 0) j) 0 0) fun σ26 => (some (r, σ26))))))))) = some (r, cl_wr (cl_wi σ 19 12 s) (21 + j) 0 0) := by
      intro s r hR
      obtain ⟨y0, y1, ky, ly, ry⟩ := rs_20 hR
      obtain ⟨ry1, ky1⟩ := ry j hj
      rw [pb_gdD _ y0, y1, pb_gdD _ (by decide), pb_gdD _ ky, ly, i8, pb_gdT, ry1, pb_gdD _ (by omega), pb_gdD _ ky1, pb_let]
    rcases h.2.2.2.2.2.1 j hj with ⟨q1, q2⟩ | ⟨lane, len, f, q1, q2, q3, q4, q5, q6, q7⟩
    · have hm1 : cl_X1_many (21 + j) σ = some (.inr 1, σ) := by
        unfold cl_X1_many
        rw [pb_gdD _ k1, if_pos q2]
      have hS := rs_st h 1
      rw [hm1, rt_bxr, if_pos rfl, pb_gdD _ x0, rs_cf h, pb_b2, tail 1 _ hS, decide_eq_true q2, pb_ibT]
      refine ⟨_, _, _, _, rfl, rfl, rs_nul hS hj, ?_⟩
      have hmm := rs_mst hm 1
      have e : pa_srow (pa_sst S 1) j none = pa_sst S 1 := by
        unfold pa_srow
        refine Prod.ext rfl (Prod.ext rfl (Prod.ext ?_ rfl))
        funext i
        show va_up S.2.2.1 j none i = S.2.2.1 i
        unfold va_up
        split
        · rename_i e; rw [e]; exact q1.symm
        · rfl
      rw [e]
      exact hmm
    · have hm1 : cl_X1_many (21 + j) σ = some (.inl (nI len), σ) := by
        unfold cl_X1_many
        rw [pb_gdD _ k1, if_neg q4, q5, q6]
        have hl3 : lane = 0 ∨ lane = 1 ∨ lane = 2 := by omega
        rcases hl3 with rfl | rfl | rfl
        · rfl
        · rfl
        · rfl
      have hS := rs_st h 0
      rw [hm1, rt_bx, pb_gdD _ x0, rs_cw h, pb_b2, tail 0 _ hS, decide_eq_false q4, pb_ibF]
      rcases hm.2.2.2.1 j hj with ⟨g1, -⟩ | ⟨lane', len', f', g1, g2, g3, g4⟩
      · rw [q1] at g1; cases g1
      rw [q1] at g1
      cases g1
      have hone : (mo_A μ 0 j (-1000000)).2 1 j = nI len := by
        show va_up μ.2 0 (upd (μ.2 0) j (-1000000)) 1 j = _
        rw [va_up_ne _ _ (by decide)]
        exact g3
      refine ⟨pa_srow (pa_sst S 0) j none, nI len, _, mo_I (mo_A μ 0 j (-1000000)) 0 0, rfl, ?_, rs_nul hS hj, ?_⟩
      · show dx_gd true (dx_gd true (dx_b2 (mo_well (mo_A μ 0 j (-1000000)) ((mo_A μ 0 j (-1000000)).2 1 j)) fun r3 σ3 => some (r3, σ3))) = _
        rw [hone]
        rfl
      · have hmm := rs_mst hm 0
        refine rt_mrow hmm (ν := mo_I (mo_A μ 0 j (-1000000)) 0 0) rfl (fun k hk => ?_) hj (Or.inl ⟨rfl, ?_⟩) (fun i hi hij => ?_)
        · show va_up μ.2 0 (upd (μ.2 0) j (-1000000)) k = _
          rw [va_up_ne _ _ (by omega)]
          rfl
        · show va_up μ.2 0 (upd (μ.2 0) j (-1000000)) 0 j = _
          rw [va_up_self]
          unfold upd
          rw [if_pos rfl]
        · have hq := hm.2.2.2.1 i hi
          unfold pm_row at hq ⊢
          have e0 : (mo_I (mo_A μ 0 j (-1000000)) 0 0).2 0 i = μ.2 0 i := by
            show va_up μ.2 0 (upd (μ.2 0) j (-1000000)) 0 i = _
            rw [va_up_self]
            unfold upd
            rw [if_neg hij]
          have e1 : (mo_I (mo_A μ 0 j (-1000000)) 0 0).2 1 = μ.2 1 := by
            show va_up μ.2 0 (upd (μ.2 0) j (-1000000)) 1 = _
            rw [va_up_ne _ _ (by decide)]
          have e2 : (mo_I (mo_A μ 0 j (-1000000)) 0 0).2 2 = μ.2 2 := by
            show va_up μ.2 0 (upd (μ.2 0) j (-1000000)) 2 = _
            rw [va_up_ne _ _ (by decide)]
          rw [e0, e1, e2]
          exact hq
/-- Shelf.put -/
theorem rt_put (h : pc_R σ S) {j : Nat} (hj : j < 8) (w x : Int32) : (pa_row S j = none ∧ cl_X1_put (21 + j) σ w x = some (.inr 1, σ)) ∨ ∃ lane len f, pa_row S j = some (lane, len, f) ∧ ((pq_in w 0 (nI len - 1) = false ∧ cl_X1_put (21 + j) σ w x = some (.inr 2, σ)) ∨ ∃ i, i < len ∧ w = nI i ∧ cl_X1_put (21 + j) σ w x = some (.inl (rt_lw lane x), cl_si σ (cl_r σ (21 + j) 0) (upd (cl_i σ (cl_r σ (21 + j) 0)) i (rt_lw lane x)))) := by
  obtain ⟨x0, x1, k20, l20, r20⟩ := rs_20 h
  obtain ⟨r1, k1⟩ := r20 j hj
  rcases h.2.2.2.2.2.1 j hj with ⟨q1, q2⟩ | ⟨lane, len, f, q1, q2, q3, q4, q5, q6, q7⟩
  · left
    refine ⟨q1, ?_⟩
    unfold cl_X1_put
    rw [pb_gdD _ k1, if_pos q2]
  · right
    refine ⟨lane, len, f, q1, ?_⟩
    obtain ⟨y, hy⟩ : ∃ y, y = cl_r σ (21 + j) 0 := ⟨_, rfl⟩
    rw [← hy] at q4 q5 q6 q7 ⊢
    have hl3 : lane = 0 ∨ lane = 1 ∨ lane = 2 := by omega
    cases hb : pq_in w 0 (nI len - 1) with
    | false =>
      left
      refine ⟨rfl, ?_⟩
      have hi : dx_inb w len = false := by
        rw [Bool.eq_false_iff]
        intro h9
        have h8 := of_decide_eq_true h9
        have : pq_in w 0 (nI len - 1) = true := by
          obtain ⟨i, hi, rfl⟩ := pb_of (v := w) (by rw [Int32.lt_iff_toInt_lt, Int32.toInt_zero]; omega)
          rw [nI_toInt hi] at h8
          exact (pq_lt (by omega)).mpr ⟨i, by omega, rfl⟩
        rw [this] at hb
        cases hb
      unfold cl_X1_put
      rw [pb_gdD _ k1, ← hy, if_neg q4, q5, q6, hi]
      have hle : len ≤ 1000 := by omega
      rcases hl3 with rfl | rfl | rfl
      · rw [if_pos (by decide), pb_gdD _ hle]; rfl
      · rw [if_neg (by decide), if_pos (by decide), pb_gdD _ hle]; rfl
      · rw [if_neg (by decide), if_neg (by decide), if_pos (by decide), pb_gdD _ hle]; rfl
    | true =>
      right
      obtain ⟨i, hi, rfl⟩ := (pq_lt (by omega)).mp hb
      refine ⟨i, hi, rfl, ?_⟩
      have hin : dx_inb (nI i) len = true := by rw [pb_inb (by omega), decide_eq_true hi]
      have cc : (nI i).toNatClampNeg = i := nI_clamp (by omega)
      have hle : len ≤ 1000 := by omega
      have hJ : ∀ v, cl_X1_put_J58 (21 + j) (cl_wi σ y i v) (nI i) = some (.inl v, cl_si σ y (upd (cl_i σ y) i v)) := by
        intro v
        have e1 : cl_r (cl_wi σ y i v) (21 + j) 0 = y := hy.symm
        have e2 : cl_k (cl_wi σ y i v) y = pr_lk lane := q5
        have e3 : cl_l (cl_wi σ y i v) y = len := q6
        have e4 : cl_i (cl_wi σ y i v) y i = v := by
          rw [pc_wi, pc_i_si_s]
          unfold upd
          rw [if_pos rfl]
        unfold cl_X1_put_J58 cl_X1_at
        rw [pb_gdD _ (show cl_k (cl_wi σ y i v) (21 + j) = 1 from k1), pb_gdD _ (show cl_k (cl_wi σ y i v) (21 + j) = 1 from k1), e1, pb_gdD _ q4, e2, e3, hin, cc, e4]
        rcases hl3 with rfl | rfl | rfl
        · rw [if_pos (by decide), pb_gdD _ q4]; rfl
        · rw [if_neg (by decide), if_pos (by decide), pb_gdD _ q4, pb_gdD _ q4]; rfl
        · rw [if_neg (by decide), if_neg (by decide), if_pos (by decide), pb_gdD _ q4, pb_gdD _ q4]; rfl
      have e8 : x.toInt8.toInt32.toInt8.toInt32 = x.toInt8.toInt32 := by simp
      have e16 : x.toInt16.toInt32.toInt16.toInt32 = x.toInt16.toInt32 := by simp
      unfold cl_X1_put
      rw [pb_gdD _ k1, ← hy, if_neg q4, q5, q6, hin, cc, e8, e16]
      rcases hl3 with rfl | rfl | rfl
      · rw [if_pos (by decide), pb_gdD _ hle, pb_ibT]; exact hJ _
      · rw [if_neg (by decide), if_pos (by decide), pb_gdD _ hle, pb_ibT]; exact hJ _
      · rw [if_neg (by decide), if_neg (by decide), if_pos (by decide), pb_gdD _ hle, pb_ibT]; exact hJ _
theorem rt_set (h : pc_R σ S) (hm : pm_R μ S) (v w x : Int32) : pq_any (cl_X0_set 19 σ v w x) (mo_set μ v w x) := by
  have bad : pq_any (some ((-1000001 : Int32), σ)) (some ((-1000001 : Int32), μ)) := ⟨S, _, _, _, rfl, rfl, h, hm⟩
  unfold cl_X0_set mo_set
  rw [rt_cR, rt_mR]
  simp only [pb_b1]
  cases hv : pq_in v 0 (nI 7) with
  | false => exact bad
  | true =>
    obtain ⟨j, hj7, rfl⟩ := (pq_le (by omega)).mp hv
    have hj : j < 8 := by omega
    obtain ⟨x0, x1, k20, l20, r20⟩ := rs_20 h
    obtain ⟨r1, k1⟩ := r20 j hj
    have i8 : dx_inb (nI j) 8 = true := by rw [pb_inb (by omega), decide_eq_true (by omega)]
    have cc : (nI j).toNatClampNeg = j := nI_clamp (by omega)
    simp only [pb_ibT]
    rw [rt_miss hm h hj, pb_b1, pb_gdD _ x0, x1, pb_gdD _ (by decide), pb_gdD _ k20, l20, i8, pb_gdT, cc, r1, pb_gdD _ (by omega), pb_gdD _ k1]
    rcases rt_put h hj w x with ⟨q1, q2⟩ | ⟨lane, len, f, q1, q2⟩
    · have hz : cl_r σ (21 + j) 0 = 0 := by
        rcases h.2.2.2.2.2.1 j hj with ⟨-, g⟩ | ⟨_, _, _, g, -⟩
        · exact g
        · rw [q1] at g; cases g
      rw [q2, rt_bxr, if_pos rfl, pb_gdD _ x0, decide_eq_true hz, pb_ibT]
      exact rs_found h hm 1
    · rcases h.2.2.2.2.2.1 j hj with ⟨g, -⟩ | ⟨lane', len', f', g, z1, z2, z3, z4, z5, z6⟩
      · rw [q1] at g; cases g
      rw [q1] at g
      cases g
      rcases hm.2.2.2.1 j hj with ⟨g, -⟩ | ⟨lane', len', f', g, u1, u2, u3⟩
      · rw [q1] at g; cases g
      rw [q1] at g
      cases g
      rw [decide_eq_false z3, pb_ibF, pb_gdT, u2, pq_m, pb_b1]
      rcases q2 with ⟨g1, g2⟩ | ⟨i, hi, rfl, g2⟩
      · rw [g2, rt_bxr, if_neg (by decide), if_pos rfl, pb_gdD _ x0, g1, pb_ibF]
        exact rs_found h hm 2
      · have hb : pq_in (nI i) 0 (nI len - 1) = true := (pq_lt (by omega)).mpr ⟨i, hi, rfl⟩
        have e40 : (40 : Int32) * nI j + nI i = nI (40 * j + i) := by
          rw [show (40 : Int32) = nI 40 from rfl, pb_mul, pb_add]
        have im : dx_inb (nI (40 * j + i)) 320 = true := by rw [pb_inb (by omega), decide_eq_true (by omega)]
        have cm : (nI (40 * j + i)).toNatClampNeg = 40 * j + i := nI_clamp (by omega)
        rw [hb, pb_ibT, pb_gdT, u1, rt_low z1, pb_b1, e40, im, pb_gdT, pb_gdT, cm, g2, rt_bx]
        obtain ⟨y, hy⟩ : ∃ y, y = cl_r σ (21 + j) 0 := ⟨_, rfl⟩
        have hR := rs_int h hj (g := upd (cl_i σ (cl_r σ (21 + j) 0)) i (rt_lw lane x)) q1 (fun i' hi' => ⟨rfl, by
          unfold upd
          split
          · exact rt_fits z1 x
          · rw [(z6 i' hi').1]; exact (z6 i' hi').2⟩)
        rw [pb_gdD _ hR.1.2.1.1]
        have ev : (mo_A μ 2 (40 * j + i) (rt_lw lane x)).2 2 (40 * j + i) = rt_lw lane x := by
          rw [pe_mA]
          unfold upd
          rw [if_pos rfl]
        rw [ev]
        refine rs_well hR ?_ _
        refine rt_mrow (ν := mo_A μ 2 (40 * j + i) (rt_lw lane x)) hm rfl (fun k hk => ?_) hj (Or.inr ⟨lane, len, _, rfl, ?_, ?_, fun i' hi' => ?_⟩) (fun m hm8 hmj => ?_)
        · show va_up μ.2 2 (upd (μ.2 2) (40 * j + i) (rt_lw lane x)) k = _
          rw [va_up_ne _ _ (by omega)]
        · show va_up μ.2 2 (upd (μ.2 2) (40 * j + i) (rt_lw lane x)) 0 j = _
          rw [va_up_ne _ _ (by decide)]
          exact u1
        · show va_up μ.2 2 (upd (μ.2 2) (40 * j + i) (rt_lw lane x)) 1 j = _
          rw [va_up_ne _ _ (by decide)]
          exact u2
        · rw [pe_mA]
          unfold upd
          by_cases hii : i' = i
          · rw [if_pos (by omega), if_pos hii]
          · rw [if_neg (by omega), if_neg hii, u3 i' hi', (z6 i' hi').1]
        · have hq := hm.2.2.2.1 m hm8
          unfold pm_row at hq ⊢
          have e0 : (mo_A μ 2 (40 * j + i) (rt_lw lane x)).2 0 = μ.2 0 := by
            show va_up μ.2 2 (upd (μ.2 2) (40 * j + i) (rt_lw lane x)) 0 = _
            rw [va_up_ne _ _ (by decide)]
          have e1 : (mo_A μ 2 (40 * j + i) (rt_lw lane x)).2 1 = μ.2 1 := by
            show va_up μ.2 2 (upd (μ.2 2) (40 * j + i) (rt_lw lane x)) 1 = _
            rw [va_up_ne _ _ (by decide)]
          rw [e0, e1]
          rcases hq with hq | ⟨lane', len', f', w1, w2, w3, w4⟩
          · exact Or.inl hq
          · refine Or.inr ⟨lane', len', f', w1, w2, w3, fun i' hi' => ?_⟩
            have hl' : len' ≤ 40 := by
              rcases h.2.2.2.2.2.1 m hm8 with ⟨g, -⟩ | ⟨_, _, _, g, -, g3, -⟩
              · rw [w1] at g; cases g
              · rw [w1] at g; cases g; exact g3
            rw [pe_mA]
            unfold upd
            rw [if_neg (by omega)]
            exact w4 i' hi'
end RT
