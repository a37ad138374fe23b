/-! chains: the class's find -/
/-- what the class answers, and what it leaves -/
def cf_P (N : pn_N) (σ : cl_S) (p s D : Nat) (L : Nat → Nat) (z : Bool × cl_S) : Prop := cc_F σ z.2 ∧ ((z.1 = false ∧ ¬ ca_f N L p s D < 1000) ∨ (z.1 = true ∧ ca_f N L p s D < 1000 ∧ ∃ K, ca_ok N L s D (ca_f N L p s D) K ∧ cl_i z.2 46 7 = nI (ca_f N L p s D) ∧ ∀ t, t < ca_f N L p s D → cl_i z.2 52 t = nI (K t / 2)))
section CF
variable {σ θ : cl_S} {S : pa_S} {N : pn_N} {L : Nat → Nat} {s D p : Nat}
theorem cf_wi2 (o k : Nat) (v w : Int32) : cl_wi (cl_wi θ o k v) o k w = cl_wi θ o k w := by
  rw [pc_wi, pc_wi, pc_wi, pc_i_si_s, pc_si_si]
  congr 1
  funext j
  unfold upd
  split <;> rfl
/-- back from the entry that was found -/
theorem cf_back (h : pc_R σ S) (hNS : pa_net S = N) (hT : ca_T N L p D) (hF : cc_F σ θ) {Qp Qe Qf Qb : Nat → Nat} {M i : Nat} (hq : cq_I N s D Qp Qe Qf Qb M i 0) (hH : cc_H θ Qp Qe Qf Qb M) (hi : i < M) (hpi : Qp i = p) (hpj : ∀ j, j < i → Qp j ≠ p) : ∃ z, dx_lp (fun x : Int32 × cl_S => cl_X4_find_L96 46 30 x.2 (nI i) x.1) dx_fu (nI i, cl_wi θ 46 7 (0 : Int32)) = some z ∧ cf_P N σ p s D L z := by
  have hN : pn_ok N := by rw [← hNS]; exact h.2.2.1.2
  have hM := cq_M hN hq
  obtain ⟨f1, f2, f3, f4, f5⟩ := cq_found hN hT hq hi hpi hpj
  obtain ⟨h1, h2, h3, h4, h5⟩ := hH
  obtain ⟨n, hn⟩ : ∃ n, ca_f N L p s D = n := ⟨_, rfl⟩
  unfold cf_P
  rw [hn] at f1 f2 f3 f4 f5 ⊢
  have hXM : ∀ t, t ≤ n → cq_X Qf i t < M := by
    intro t ht
    by_cases htn : t = n
    · rw [htn, f3]
      exact hq.1.1
    · have := (f4 t (by omega)).2
      omega
  have hXn : ∀ t, t < n → ¬ nI (Qf (cq_X Qf i t)) = (-1000000 : Int32) := by
    intro t ht
    have := hXM (t + 1) (by omega)
    exact pr_nN (by show cq_X Qf i (t + 1) < _; omega)
  have h140 : ∀ x, cc_F σ x → cl_i x 46 7 = nI n → cl_i x 49 = cl_i θ 49 → cl_i x 50 = cl_i θ 50 → ∃ z, dx_lp (fun y : Int32 × Int32 × cl_S => cl_X4_find_L140 46 30 y.2.2 y.1 y.2.1) dx_fu (nI n, nI i, x) = some z ∧ (cc_F σ z.2 ∧ z.1 = true ∧ cl_i z.2 46 7 = nI n ∧ ∀ t, t < n → cl_i z.2 52 (n - 1 - t) = nI (Qb (cq_X Qf i t))) := by
    intro x x1 x2 x3 x4
    have key := pb_cnti (b := fun y : Int32 × Int32 × cl_S => cl_X4_find_L140 46 30 y.2.2 y.1 y.2.1) (fun t (y : cl_S) => (nI (n - t), nI (cq_X Qf i t), y)) (fun t y => cc_F σ y ∧ cl_i y 46 7 = nI n ∧ cl_i y 49 = cl_i θ 49 ∧ cl_i y 50 = cl_i θ 50 ∧ ∀ t', t' < t → cl_i y 52 (n - 1 - t') = nI (Qb (cq_X Qf i t'))) n (fun z => cc_F σ z.2 ∧ z.1 = true ∧ cl_i z.2 46 7 = nI n ∧ ∀ t, t < n → cl_i z.2 52 (n - 1 - t) = nI (Qb (cq_X Qf i t))) (fun t ht y hy => ?_) (fun y hy => ?_) dx_fu (by unfold dx_fu; omega) x ⟨x1, x2, x3, x4, fun t ht => absurd ht (Nat.not_lt_zero t)⟩
    · exact key
    · obtain ⟨y1, y2, y3, y4, y5⟩ := hy
      obtain ⟨-, -, -, hpc, -⟩ := (cc_R h y1).1
      obtain ⟨k0, ⟨r0, r1, r2, r3, r4, r6⟩, ⟨q0, q1, q2, q3, q4, q6⟩, ⟨l0, l1, l2, l3, l4, l6⟩⟩ := hpc
      obtain ⟨c1, c2⟩ := f4 t ht
      obtain ⟨b1, b2⟩ := h4 (cq_X Qf i t) c1 (by omega)
      have i280 : dx_inb (nI (cq_X Qf i t)) 280 = true := by rw [pb_inb (by omega), decide_eq_true (by omega)]
      have i279 : dx_inb (nI (n - t - 1)) 279 = true := by rw [pb_inb (by omega), decide_eq_true (by omega)]
      have cX : (nI (cq_X Qf i t)).toNatClampNeg = cq_X Qf i t := nI_clamp (by omega)
      have cn : (nI (n - t - 1)).toNatClampNeg = n - t - 1 := nI_clamp (by omega)
      have z50 : cl_i y 50 (cq_X Qf i t) = nI (Qf (cq_X Qf i t)) := by rw [y4]; exact b2
      have z49 : cl_i y 49 (cq_X Qf i t) = nI (Qb (cq_X Qf i t)) := by rw [y3]; exact b1
      refine ⟨cl_wi y 52 (n - t - 1) (nI (Qb (cq_X Qf i t))), ⟨cc_F_wi y1 (by unfold cc_Z; omega) _ _, y2, y3, y4, fun t' ht' => ?_⟩, ?_⟩
      · rw [pc_wi, pc_i_si_s]
        unfold upd
        by_cases htt : t' = t
        · rw [if_pos (by omega), htt]
        · rw [if_neg (by omega)]
          exact y5 t' (by omega)
      · show cl_X4_find_L140 46 30 y (nI (n - t)) (nI (cq_X Qf i t)) = some (.inl (nI (n - (t + 1)), nI (Qf (cq_X Qf i t)), cl_wi y 52 (n - t - 1) (nI (Qb (cq_X Qf i t)))))
        unfold cl_X4_find_L140
        rw [pb_gdD _ k0, r3, pb_gdD _ (by decide), pb_gdD _ q3, l3, i280, pb_gdT, cX, z50, if_neg (hXn t ht), r6, pb_gdD _ (by decide), r2, pb_gdD _ (by decide), pb_gdD _ q2, l2, i280, pb_gdT, pb_gdD _ q6, cm_dec (by omega), l6, i279, pb_gdT, pb_let, cn, z49]
        obtain ⟨y', hy'⟩ : ∃ y', y' = cl_wi y 52 (n - t - 1) (nI (Qb (cq_X Qf i t))) := ⟨_, rfl⟩
        rw [← hy']
        have a1 : cl_r y' 46 = cl_r y 46 ∧ cl_k y' = cl_k y ∧ cl_l y' = cl_l y ∧ cl_i y' 50 = cl_i y 50 := by rw [hy']; exact ⟨rfl, rfl, rfl, rfl⟩
        rw [a1.1, r3, pb_gdD _ (by decide), a1.2.1, pb_gdD _ q3, a1.2.2.1, l3, i280, pb_gdT, a1.2.2.2, z50, show n - t - 1 = n - (t + 1) by omega]
    · obtain ⟨y1, y2, y3, y4, y5⟩ := hy
      obtain ⟨-, -, -, hpc, -⟩ := (cc_R h y1).1
      obtain ⟨k0, ⟨r0, r1, r2, r3, r4, r6⟩, ⟨q0, q1, q2, q3, q4, q6⟩, ⟨l0, l1, l2, l3, l4, l6⟩⟩ := hpc
      refine ⟨(true, y), ?_, y1, rfl, y2, y5⟩
      show cl_X4_find_L140 46 30 y (nI (n - n)) (nI (cq_X Qf i n)) = _
      have e0 : (nI 0).toNatClampNeg = 0 := nI_clamp (by omega)
      have z50 : cl_i y 50 0 = -1000000 := by rw [y4]; exact h3
      have i0 : dx_inb (nI 0) 280 = true := by decide
      unfold cl_X4_find_L140
      rw [pb_gdD _ k0, r3, pb_gdD _ (by decide), pb_gdD _ q3, l3, f3, i0, pb_gdT, e0, z50, if_pos rfl]
      rfl
  have step : ∀ t, t ≤ n → cl_X4_find_L96 46 30 (cl_wi θ 46 7 (nI t)) (nI i) (nI (cq_X Qf i t)) = if t < n then some (.inl (nI (Qf (cq_X Qf i t)), cl_wi θ 46 7 (nI (t + 1)))) else dx_ex (dx_lp (fun y : Int32 × Int32 × cl_S => cl_X4_find_L140 46 30 y.2.2 y.1 y.2.1) dx_fu (nI n, nI i, cl_wi θ 46 7 (nI n))) := by
    intro t ht
    obtain ⟨-, -, -, hpc, -⟩ := (cc_R h hF).1
    obtain ⟨k0, ⟨r0, r1, r2, r3, r4, r6⟩, ⟨q0, q1, q2, q3, q4, q6⟩, ⟨l0, l1, l2, l3, l4, l6⟩⟩ := hpc
    have hX := hXM t ht
    have i280 : dx_inb (nI (cq_X Qf i t)) 280 = true := by rw [pb_inb (by omega), decide_eq_true (by omega)]
    have cX : (nI (cq_X Qf i t)).toNatClampNeg = cq_X Qf i t := nI_clamp (by omega)
    have z7 : cl_i (cl_wi θ 46 7 (nI t)) 46 7 = nI t := by rw [pc_wi, pc_i_si_s]; rfl
    unfold cl_X4_find_L96
    rw [z7, ← nI_succ, cf_wi2]
    obtain ⟨y, hy⟩ : ∃ y, y = cl_wi θ 46 7 (nI t) := ⟨_, rfl⟩
    obtain ⟨y', hy'⟩ : ∃ y', y' = cl_wi θ 46 7 (nI (t + 1)) := ⟨_, rfl⟩
    rw [← hy, ← hy']
    have a1 : cl_r y 46 = cl_r θ 46 ∧ cl_k y = cl_k θ ∧ cl_l y = cl_l θ ∧ cl_i y 50 = cl_i θ 50 := by rw [hy]; exact ⟨rfl, rfl, rfl, rfl⟩
    have a2 : cl_r y' 46 = cl_r θ 46 ∧ cl_k y' = cl_k θ ∧ cl_l y' = cl_l θ ∧ cl_i y' 50 = cl_i θ 50 := by rw [hy']; exact ⟨rfl, rfl, rfl, rfl⟩
    rw [a1.2.1, pb_gdD _ k0, a1.1, r3, pb_gdD _ (by decide), pb_gdD _ q3, a1.2.2.1, l3, i280, pb_gdT, cX, a1.2.2.2, a2.1, r3, pb_gdD _ (by decide), a2.2.1, pb_gdD _ q3, a2.2.2.1, l3, i280, pb_gdT, a2.2.2.2, pb_let]
    by_cases htn : t < n
    · obtain ⟨c1, c2⟩ := f4 t htn
      obtain ⟨b1, b2⟩ := h4 (cq_X Qf i t) c1 (by omega)
      rw [if_pos htn, b2, if_neg (hXn t htn)]
    · have e : t = n := by omega
      subst e
      rw [if_neg htn, f3, h3, if_pos rfl, hy]
  obtain ⟨z, hz, z1, z2, z3, z4⟩ := h140 (cl_wi θ 46 7 (nI n)) (cc_F_wi hF (by unfold cc_Z; omega) _ _) (by rw [pc_wi, pc_i_si_s]; rfl) rfl rfl
  refine ⟨z, ?_, z1, Or.inr ⟨z2, f1, _, f5, z3, fun t ht => ?_⟩⟩
  · have e0 : cl_wi θ 46 7 (0 : Int32) = cl_wi θ 46 7 (nI 0) := by rw [nI_0]
    rw [e0]
    refine pb_lp (b := fun x : Int32 × cl_S => cl_X4_find_L96 46 30 x.2 (nI i) x.1) n (fun t => (nI (cq_X Qf i t), cl_wi θ 46 7 (nI t))) (fun t ht => ?_) ?_ (by omega)
    · show cl_X4_find_L96 46 30 (cl_wi θ 46 7 (nI t)) (nI i) (nI (cq_X Qf i t)) = _
      rw [step t (by omega), if_pos ht]
      rfl
    · show cl_X4_find_L96 46 30 (cl_wi θ 46 7 (nI n)) (nI i) (nI (cq_X Qf i n)) = _
      rw [step n (Nat.le_refl _), if_neg (by omega), hz]
      rfl
  · have := z4 (n - 1 - t) (by omega)
    rw [show n - 1 - (n - 1 - t) = t by omega] at this
    rw [this]
    show _ = nI (ca_h N _ (Qb (cq_X Qf i (n - 1 - t))) / 2)
    rw [ca_h_2]
/-- **Chains.find** -/
theorem cf_find (h : pc_R σ S) (hNS : pa_net S = N) (hT : ca_T N L p D) (hs : s < pn_P N) (hp : p < pn_P N) (hD : D ≤ 30) : ∃ z, cl_X4_find 46 30 σ (nI s) (nI D) (nI p) = some z ∧ cf_P N σ p s D L z := by
  have hN : pn_ok N := by rw [← hNS]; exact h.2.2.1.2
  have hP := hN.1
  have h42 : ∀ x, (cc_F σ x ∧ ∃ Qp Qe Qf Qb M, cq_I N s D Qp Qe Qf Qb M 0 0 ∧ cc_H x Qp Qe Qf Qb M) → ∃ z, dx_lp (fun y : Int32 × cl_S => cl_X4_find_L42 46 30 y.2 (nI p) y.1) dx_fu (nI 0, x) = some z ∧ cf_P N σ p s D L z := by
    intro x hx
    have key := pb_inv (b := fun y : Int32 × cl_S => cl_X4_find_L42 46 30 y.2 (nI p) y.1) (fun y => cc_F σ y.2 ∧ ∃ i Qp Qe Qf Qb M, y.1 = nI i ∧ cq_I N s D Qp Qe Qf Qb M i 0 ∧ cc_H y.2 Qp Qe Qf Qb M ∧ i ≤ M ∧ ∀ j, j < i → Qp j ≠ p) (fun y => 300 - y.1.toNatClampNeg) (fun z => cf_P N σ p s D L z) (fun y hy => ?_) dx_fu (nI 0, x) ?_ (by unfold dx_fu; omega)
    · exact key
    · obtain ⟨y1, y2⟩ := y
      obtain ⟨hF, i, Qp, Qe, Qf, Qb, M, e1, hq, hH, hi, hpj⟩ := hy
      replace e1 : y1 = nI i := e1
      replace hF : cc_F σ y2 := hF
      replace hH : cc_H y2 Qp Qe Qf Qb M := hH
      subst e1
      have hM := cq_M hN hq
      have hH0 := hH
      obtain ⟨h1, h2, h3, h4, h5⟩ := hH
      obtain ⟨-, -, -, hpc, -⟩ := (cc_R h hF).1
      obtain ⟨k0, ⟨r0, r1, r2, r3, r4, r6⟩, ⟨q0, q1, q2, q3, q4, q6⟩, ⟨l0, l1, l2, l3, l4, l6⟩⟩ := hpc
      have ci : (nI i).toNatClampNeg = i := nI_clamp (by omega)
      show (∃ y', cl_X4_find_L42 46 30 y2 (nI p) (nI i) = some (.inl y') ∧ (cc_F σ y'.2 ∧ ∃ i Qp Qe Qf Qb M, y'.1 = nI i ∧ cq_I N s D Qp Qe Qf Qb M i 0 ∧ cc_H y'.2 Qp Qe Qf Qb M ∧ i ≤ M ∧ ∀ j, j < i → Qp j ≠ p) ∧ 300 - y'.1.toNatClampNeg < 300 - (nI i).toNatClampNeg) ∨ (∃ r, cl_X4_find_L42 46 30 y2 (nI p) (nI i) = some (.inr r) ∧ cf_P N σ p s D L r)
      by_cases hiM : i = M
      · right
        subst hiM
        have hle : nI i ≤ nI i := (pb_le (by omega) (by omega)).mpr (Nat.le_refl _)
        refine ⟨(false, y2), ?_, hF, Or.inl ⟨rfl, cq_none hN hT hq hpj⟩⟩
        unfold cl_X4_find_L42 cl_X4_find_J76
        rw [pb_gdD _ k0, h1, if_pos hle, pb_gdD _ k0, if_pos rfl]
        rfl
      · have hlt : i < M := by omega
        have hnle : ¬ nI M ≤ nI i := fun h => absurd ((pb_le (by omega) (by omega)).mp h) (by omega)
        have i280 : dx_inb (nI i) 280 = true := by rw [pb_inb (by omega), decide_eq_true (by omega)]
        obtain ⟨p1, p2⟩ := h2 i hlt
        have g := hq.2.2.2.2.2 i hlt
        have hne : ¬ nI i = nI M := fun h => hiM ((pb_inj (by omega) (by omega)).mp h)
        by_cases hpi : Qp i = p
        · right
          obtain ⟨z, hz, hzP⟩ := cf_back h hNS hT hF hq hH0 hlt hpi hpj
          refine ⟨z, ?_, hzP⟩
          unfold cl_X4_find_L42 cl_X4_find_J76
          rw [pb_gdD _ k0, h1, if_neg hnle, r0, pb_gdD _ (by decide), pb_gdD _ q0, l0, i280, pb_gdT, ci, p1, hpi, if_pos rfl, pb_gdD _ k0, if_neg hne, hz]
          rfl
        · left
          obtain ⟨y', e1, hF', Qp', Qe', Qf', Qb', M', hq', hH', hi', hpj'⟩ := cc_goOn (θ := y2) (p := p) (i := i) h hNS ⟨hF, Qp, Qe, Qf, Qb, M, hq, hH0, hlt, fun j hj => by
            by_cases hji : j = i
            · rw [hji]
              exact hpi
            · exact hpj j (by omega)⟩
          have hM' := cq_M hN hq'
          refine ⟨(nI (i + 1), y'), ?_, ⟨hF', i + 1, Qp', Qe', Qf', Qb', M', rfl, cq_next hq', hH', hi', fun j hj => hpj' j (by omega)⟩, ?_⟩
          · unfold cl_X4_find_L42
            rw [pb_gdD _ k0, h1, if_neg hnle, r0, pb_gdD _ (by decide), pb_gdD _ q0, l0, i280, pb_gdT, ci, p1, if_neg (fun h => hpi ((pb_inj (by omega) (by omega)).mp h)), e1, pb_b1, ← nI_succ]
          · show 300 - (nI (i + 1)).toNatClampNeg < 300 - (nI i).toNatClampNeg
            rw [nI_clamp (by omega), nI_clamp (by omega)]
            omega
    · obtain ⟨hF, Qp, Qe, Qf, Qb, M, hq, hH⟩ := hx
      exact ⟨hF, 0, Qp, Qe, Qf, Qb, M, rfl, hq, hH, Nat.zero_le _, fun j hj => absurd hj (Nat.not_lt_zero j)⟩
  have hF0 : cc_F σ (cl_wi σ 46 5 (0 : Int32)) := cc_F_wi ⟨pc_fr_rf _ _ _, rfl⟩ (by unfold cc_Z; omega) _ _
  have key := pb_cnti (b := fun y : Int32 × cl_S => cl_X4_find_L8 46 30 y.2 (nI s) (nI D) (nI p) y.1) (fun i (y : cl_S) => (nI i, y)) (fun i y => cc_F σ y ∧ cl_i y 46 5 = nI 0 ∧ ∀ q, q < i → cl_i y 51 q = 0) 9 (fun z => cf_P N σ p s D L z) (fun i hi y hy => ?_) (fun y hy => ?_) dx_fu (by unfold dx_fu; omega) (cl_wi σ 46 5 (0 : Int32)) ⟨hF0, by rw [nI_0]; rfl, fun q hq => absurd hq (Nat.not_lt_zero q)⟩
  · obtain ⟨z, hz, hzP⟩ := key
    rw [nI_0] at hz
    refine ⟨z, ?_, hzP⟩
    unfold cl_X4_find
    obtain ⟨-, -, -, hpc, -⟩ := h.1
    rw [pb_gdD _ hpc.1]
    exact hz
  · obtain ⟨y1, y2, y3⟩ := hy
    obtain ⟨-, -, -, hpc, -⟩ := (cc_R h y1).1
    obtain ⟨k0, ⟨r0, r1, r2, r3, r4, r6⟩, ⟨q0, q1, q2, q3, q4, q6⟩, ⟨l0, l1, l2, l3, l4, l6⟩⟩ := hpc
    have i9 : dx_inb (nI i) 9 = true := by rw [pb_inb (by omega), decide_eq_true (by omega)]
    have ci : (nI i).toNatClampNeg = i := nI_clamp (by omega)
    have h9 : ¬ (9 : Int32) ≤ nI i := fun h => absurd ((pb_le (a := 9) (by omega) (by omega)).mp h) (by omega)
    refine ⟨cl_wi y 51 i 0, ⟨cc_F_wi y1 (by unfold cc_Z; omega) _ _, y2, fun q hq => ?_⟩, ?_⟩
    · rw [pc_wi, pc_i_si_s]
      unfold upd
      split
      · rfl
      · exact y3 q (by omega)
    · show cl_X4_find_L8 46 30 y (nI s) (nI D) (nI p) (nI i) = some (.inl (nI (i + 1), cl_wi y 51 i 0))
      unfold cl_X4_find_L8
      rw [if_neg h9, pb_gdD _ k0, r4, pb_gdD _ (by decide), pb_gdD _ q4, l4, i9, pb_gdT, pb_let, ci, ← nI_succ]
  · obtain ⟨y1, y2, y3⟩ := hy
    have hRy := cc_R h y1
    obtain ⟨-, -, -, hpc, -⟩ := hRy.1
    have hco := cc_comes hpc (t := s) (d := D) (by omega) hD (M := 0) (by omega) y2 (-1000000) (-1000000)
    have hb : ¬ pb_bt (cl_i y 51 s) D = true := by rw [y3 s (by omega), pb_bt0]; decide
    rw [if_neg hb] at hco
    obtain ⟨w1, w2, w3, w4, w5, w6⟩ := cc_W_i (θ := y) s D 0 (-1000000) (-1000000)
    have hcc : cc_H (cc_W y s D 0 (-1000000) (-1000000)) (fun _ => s) (fun _ => D) (fun _ => 0) (fun _ => 0) 1 := by
      unfold cc_H
      rw [w1, w2, w3, w4, w5, w6]
      refine ⟨rfl, fun j hj => ?_, rfl, fun j hj hj1 => absurd hj1 (by omega), fun q e hq he => ?_⟩
      · have : j = 0 := by omega
        subst this
        exact ⟨rfl, rfl⟩
      · unfold upd
        by_cases hqs : q = s
        · subst hqs
          rw [if_pos rfl, y3 q (by omega), pb_or, pb_bt0, Bool.false_or, pb_one' (by omega), decide_eq_true_iff]
          constructor
          · intro e1
            exact ⟨0, by omega, rfl, e1.symm⟩
          · rintro ⟨j, -, -, e1⟩
            exact e1.symm
        · rw [if_neg hqs, y3 q (by omega), pb_bt0]
          constructor
          · intro e1
            cases e1
          · rintro ⟨j, -, e1, -⟩
            exact absurd e1.symm hqs
    obtain ⟨z, hz, hzP⟩ := h42 (cc_W y s D 0 (-1000000) (-1000000)) ⟨cc_F_W y1 _ _ _ _ _, fun _ => s, fun _ => D, fun _ => 0, fun _ => 0, 1, ⟨⟨by omega, rfl, rfl⟩, fun j hj hj1 => absurd hj1 (by omega), fun j hj hj1 => absurd hj1 (by omega), fun i' c' hi' hc' hlt => absurd hlt (by omega), fun j j' hj hj' _ _ => by omega, fun j hj => ⟨hs, hD, Nat.le_refl _⟩⟩, hcc⟩
    refine ⟨z, ?_, hzP⟩
    show cl_X4_find_L8 46 30 y (nI s) (nI D) (nI p) (nI 9) = _
    unfold cl_X4_find_L8
    rw [if_pos (by decide), pb_gdD _ hpc.1, hco, pb_b1, ← nI_0, hz]
    rfl
end CF
