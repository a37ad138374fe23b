/-! fits: what is told of a row; whether it is so -/
def sa_T (σ : cl_S) (o n : Nat) (f : Nat → Int32) : Prop := (54 < o ∧ o ≤ cl_n σ) ∧ cl_k σ o = 20 ∧ cl_l σ o = n ∧ ∀ p, p < n → cl_i σ o p = f p
theorem sa_T_fr {σ τ : cl_S} {Z Y : Nat → Prop} (h : pc_fr σ τ Z Y) (hz : ∀ y, Z y → y ≤ 54) {o n : Nat} {f : Nat → Int32} (ht : sa_T σ o n f) : sa_T τ o n f := by
  obtain ⟨⟨t1, t2⟩, t3, t4, t5⟩ := ht
  obtain ⟨a1, a2, a3, -⟩ := h.2 o t2
  refine ⟨⟨t1, by have := h.1; omega⟩, by rw [a1]; exact t3, by rw [a2]; exact t4, fun p hp => ?_⟩
  rw [a3 (fun hZ => by have := hz o hZ; omega)]
  exact t5 p hp
def sa_so (D f : Nat → Int32) (n : Nat) : Bool := (List.range n).all (fun p => decide (rx_F D p = f p))
theorem sa_so_s (D f : Nat → Int32) (n : Nat) : sa_so D f (n + 1) = (sa_so D f n && decide (rx_F D n = f n)) := by
  unfold sa_so
  rw [List.range_succ, List.all_append]
  show (_ && (decide (rx_F D n = f n) && true)) = _
  rw [Bool.and_true]
theorem sa_so_mono {D f : Nat → Int32} {n p : Nat} (hp : p < n) (hne : rx_F D p ≠ f p) : sa_so D f n = false := by
  unfold sa_so
  rw [List.all_eq_false]
  exact ⟨p, List.mem_range.mpr hp, by simp [hne]⟩
theorem sa_so_all {D f : Nat → Int32} {n : Nat} (h : ∀ p, p < n → rx_F D p = f p) : sa_so D f n = true := by
  unfold sa_so
  rw [List.all_eq_true]
  intro p hp
  exact decide_eq_true (h p (List.mem_range.mp hp))
theorem sa_cmp {n len : Nat} (hn : n < 2 ^ 31) (hl : len < 2 ^ 31) : lg_cmp ((0 : Int32).toInt64 + (nI n).toInt64) (nI len).toInt64 ≤ 0 ↔ n ≤ len := by
  rw [(pq_cmp _ _).2.2.2, show (0 : Int32).toInt64 = 0 from rfl, Int64.zero_add, Int64.le_iff_toInt_le, Int32.toInt_toInt64, Int32.toInt_toInt64, nI_toInt hn, nI_toInt hl]
  omega
section SA
variable {σ : cl_S} {μ : mo_S} {S : pa_S} {N : pn_N}
theorem sa_items (h : pc_R σ S) {j n : Nat} (hj : j < 8) (hn : n ≤ 9) : (pa_row S j = none ∧ cl_X0_items 19 σ (nI j) 0 (nI n) = some (.inr 1, σ)) ∨ ∃ lane len f, pa_row S j = some (lane, len, f) ∧ len ≤ 40 ∧ ((len < n ∧ cl_X0_items 19 σ (nI j) 0 (nI n) = some (.inr 2, σ)) ∨ (n ≤ len ∧ ∃ τ o, cl_X0_items 19 σ (nI j) 0 (nI n) = some (.inl o, τ) ∧ pc_R τ S ∧ sa_T τ o n f)) := by
  obtain ⟨y0, y1, k20, l20, r20⟩ := rs_20 h
  obtain ⟨r1, k1⟩ := r20 j hj
  have i8 : dx_inb (nI j) 8 = true := by rw [pb_inb (by omega), decide_eq_true (by omega)]
  have cc : (nI j).toNatClampNeg = j := nI_clamp (by omega)
  have pre : cl_X0_items 19 σ (nI j) 0 (nI n) = dx_bx (cl_X1_many (21 + j) σ) (fun r6 σ6 => (if (0 : Int32) < 0 then (cl_X0_items_J27 19 σ6) else (if (lg_cmp ((0 : Int32).toInt64 + (nI n).toInt64) r6.toInt64) ≤ 0 then (dx_gd (decide (¬ nI n < 0 ∧ (nI n).toNatClampNeg ≤ 40)) (dx_lp (fun x => cl_X0_items_L43 19 x.2 (nI j) 0 (nI n) (cl_n σ6 + 1) x.1) dx_fu ((0 : Int32), (cl_nw σ6 20 (nI n).toNatClampNeg)))) else (cl_X0_items_J27 19 σ6)))) (fun x6 σ6 => (some (.inr x6, σ6))) := by
    unfold cl_X0_items
    rw [pb_gdD _ y0, y1, pb_gdD _ (by decide), pb_gdD _ k20, l20, i8, pb_gdT, cc, r1, pb_gdD _ (by omega), pb_gdD _ k1]
  rcases h.2.2.2.2.2.1 j hj with ⟨q1, q2⟩ | ⟨lane, len, f, q1, q2, q3, q4, q5, q6, q7⟩
  · refine Or.inl ⟨q1, ?_⟩
    have hm1 : cl_X1_many (21 + j) σ = some (.inr 1, σ) := by
      unfold cl_X1_many
      rw [pb_gdD _ k1, if_pos q2]
    rw [pre, hm1]
    rfl
  · refine Or.inr ⟨lane, len, f, q1, q3, ?_⟩
    have hm1 : cl_X1_many (21 + j) σ = some (.inl (nI len), σ) := by
      unfold cl_X1_many
      rw [pb_gdD _ k1, if_neg q4, q5, q6]
      have hl3 : lane = 0 ∨ lane = 1 ∨ lane = 2 := by omega
      rcases hl3 with rfl | rfl | rfl <;> rfl
    rw [pre, hm1, rt_bx, if_neg (by decide)]
    by_cases hle : n ≤ len
    · refine Or.inr ⟨hle, ?_⟩
      rw [if_pos ((sa_cmp (by omega) (by omega)).mpr hle), nI_clamp (by omega), pb_gdD _ ⟨pb_neg (by omega), by omega⟩]
      have hn54 := h.1.1
      have key := pb_cnti (b := fun x : Int32 × cl_S => cl_X0_items_L43 19 x.2 (nI j) 0 (nI n) (cl_n σ + 1) x.1) (fun i τ => (nI i, τ)) (fun i τ => pc_fr σ τ pc_0 pc_0 ∧ cl_n σ + 1 ≤ cl_n τ ∧ cl_k τ (cl_n σ + 1) = 20 ∧ cl_l τ (cl_n σ + 1) = n ∧ ∀ p, p < i → cl_i τ (cl_n σ + 1) p = f p) n (fun z => ∃ τ o, z = (.inl o, τ) ∧ pc_R τ S ∧ sa_T τ o n f) (fun i hi τ hτ => ?_) (fun τ hτ => ?_) dx_fu (by unfold dx_fu; omega) (cl_nw σ 20 n) ⟨pc_fr_nw σ 20 n, Nat.le_refl _, by rw [pc_k_nw, if_pos rfl], by rw [pc_l_nw, if_pos rfl], fun p hp => absurd hp (Nat.not_lt_zero p)⟩
      · obtain ⟨z, h1, τ, o, rfl, h2, h3⟩ := key
        exact ⟨τ, o, h1, h2, h3⟩
      · obtain ⟨t1, t2, t3, t4, t5⟩ := hτ
        have hR : pc_R τ S := pc_R_sc t1 (fun _ _ h => h.elim) (fun _ _ h => h.elim) h
        obtain ⟨z0, z1, zk20, zl20, zr20⟩ := rs_20 hR
        obtain ⟨zr1, zk1⟩ := zr20 j hj
        have hlt : ¬ nI n ≤ nI i := fun h => absurd ((pb_le (by omega) (by omega)).mp h) (by omega)
        have hat : cl_X1_at (21 + j) τ ((0 : Int32) + nI i) = some (f i) := by
          rcases hR.2.2.2.2.2.1 j hj with ⟨g, -⟩ | ⟨_, _, _, g, -, -, s4, s5, s6, s7⟩
          · rw [q1] at g; cases g
          rw [q1] at g
          cases g
          have ii : dx_inb (nI i) len = true := by rw [pb_inb (by omega), decide_eq_true (by omega)]
          unfold cl_X1_at
          rw [Int32.zero_add, pb_gdD _ zk1, pb_gdD _ s4, s5, s6, ii, nI_clamp (by omega), (s7 i (by omega)).1]
          have hl3 : lane = 0 ∨ lane = 1 ∨ lane = 2 := by omega
          rcases hl3 with rfl | rfl | rfl
          · rw [if_pos (by decide), pb_gdD _ s4, pb_gdT]
          · rw [if_neg (by decide), if_pos (by decide), pb_gdD _ s4, pb_gdD _ s4, pb_gdT]
          · rw [if_neg (by decide), if_neg (by decide), if_pos (by decide), pb_gdD _ s4, pb_gdD _ s4, pb_gdT]
        refine ⟨cl_wi τ (cl_n σ + 1) i (f i), ⟨pc_fr_sin t1 (by omega) _, t2, t3, t4, fun p hp => ?_⟩, ?_⟩
        · rw [pc_wi, pc_i_si_s]
          unfold upd
          by_cases hpi : p = i
          · rw [if_pos hpi, hpi]
          · rw [if_neg hpi]
            exact t5 p (by omega)
        · show cl_X0_items_L43 19 τ (nI j) 0 (nI n) (cl_n σ + 1) (nI i) = _
          unfold cl_X0_items_L43
          rw [if_neg hlt, pb_gdD _ z0, z1, pb_gdD _ (by decide), pb_gdD _ zk20, zl20, i8, pb_gdT, cc, zr1, pb_gdD _ (by omega), pb_gdD _ zk1, hat, pb_b1, pb_gdD _ t3, t4, pn_gdi _ (by omega) (by omega), nI_clamp (by omega), ← nI_succ]
      · obtain ⟨t1, t2, t3, t4, t5⟩ := hτ
        refine ⟨(.inl (cl_n σ + 1), τ), ?_, τ, _, rfl, pc_R_sc t1 (fun _ _ h => h.elim) (fun _ _ h => h.elim) h, ⟨by omega, t2⟩, t3, t4, t5⟩
        show cl_X0_items_L43 19 τ (nI j) 0 (nI n) (cl_n σ + 1) (nI n) = _
        unfold cl_X0_items_L43
        rw [if_pos ((pb_le (by omega) (by omega)).mpr (Nat.le_refl _))]
        rfl
    · refine Or.inl ⟨by omega, ?_⟩
      rw [if_neg (fun h => hle ((sa_cmp (by omega) (by omega)).mp h))]
      rfl
theorem sa_isSo (h : pc_R σ S) (hN : pc_N σ 37 N) (hok : pn_ok N) {s n o : Nat} {f : Nat → Int32} (hs : s < pn_P N) (hn : n ≤ 9) (ht : sa_T σ o n f) : ∃ τ, cl_X0_isSo 19 37 o σ (nI s) = some (sa_so (pn_wk N s 0 0) f n, τ) ∧ pc_R τ S ∧ sa_T τ o n f := by
  have hw := h.1.2.2.2.2.2.2.2.2
  obtain ⟨F, h1, h2⟩ := pc_go hN hok hw (by omega) 0 hs (by omega : 0 < 31)
  have hfr := pc_fr_si σ 45 F (Z := fun y => y = 45) (Y := pc_0) rfl
  have hR : pc_R (cl_si σ 45 F) S := pc_R_sc hfr (fun y _ hy => by have : y = 45 := hy; omega) (fun y _ hy => hy.elim) h
  have hT : sa_T (cl_si σ 45 F) o n f := sa_T_fr hfr (fun y hy => by have : y = 45 := hy; omega) ht
  obtain ⟨τ, hτ⟩ : ∃ τ, τ = cl_si σ 45 F := ⟨_, rfl⟩
  have hD : ∀ p, p < 9 → cl_i τ 45 p = pn_wk N s 0 0 p := by
    intro p hp
    rw [hτ, pc_i_si_s]
    exact h1 p hp
  replace h2 : cl_X3_go 44 37 σ (nI s) (nI 0) 0 = some (44, cl_si σ 45 F) := h2
  rw [← hτ] at hR hT h2
  rw [nI_0] at h2
  refine ⟨τ, ?_, hR, hT⟩
  obtain ⟨x0, x3, x5, k0, w1, w2, w3, w4⟩ := pt_cx h
  obtain ⟨z0, z3, z5, zk0, zw1, zw2, zw3, zw4⟩ := pt_cx hR
  unfold cl_X0_isSo
  rw [pb_gdD _ x0, x5, pb_gdD _ (by decide), pb_gdD _ w1, h2, pb_b2, pb_gdD _ (by decide)]
  obtain ⟨⟨t1, t2⟩, t3, t4, t5⟩ := hT
  have e4 : Int32.ofNat (cl_l τ o) = nI n := by rw [t4]; rfl
  have key := pb_inv (b := fun x : Int32 => cl_X0_isSo_L15 19 37 o τ x) (fun x => ∃ i, x = nI i ∧ i ≤ n ∧ ∀ p, p < i → rx_F (pn_wk N s 0 0) p = f p) (fun x => ((n : Int) - x.toInt).toNat) (fun z => z = (sa_so (pn_wk N s 0 0) f n, τ)) ?_ dx_fu 0 ⟨0, nI_0.symm, by omega, fun p hp => absurd hp (Nat.not_lt_zero p)⟩ (by rw [Int32.toInt_zero]; unfold dx_fu; omega)
  · obtain ⟨r, g1, g2⟩ := key
    rw [g1, g2]
  · rintro x ⟨i, rfl, hi, hall⟩
    by_cases hin : i = n
    · right
      refine ⟨(true, τ), ?_, by rw [sa_so_all (fun p hp => hall p (by omega))]⟩
      show cl_X0_isSo_L15 19 37 o τ (nI i) = _
      unfold cl_X0_isSo_L15
      rw [pb_gdD _ t3, e4, hin, if_pos ((pb_le (by omega) (by omega)).mpr (Nat.le_refl _))]
      rfl
    · have hlt : ¬ nI n ≤ nI i := fun h => absurd ((pb_le (by omega) (by omega)).mp h) (by omega)
      have hF := rx_Fs (D := pn_wk N s 0 0) (p := i) (fun e' he' => pn_wk_31 (by omega) 0 (by omega) he')
      have hfirst : cl_X3_first 44 τ (nI i) = some (rx_F (pn_wk N s 0 0) i) := rw_c ⟨zw1, zw2, zw3, zw4⟩ (by omega) (by rw [hD i (by omega)]; exact hF)
      have run : cl_X0_isSo_L15 19 37 o τ (nI i) = if rx_F (pn_wk N s 0 0) i = f i then some (.inl (nI (i + 1))) else some (.inr (false, τ)) := by
        unfold cl_X0_isSo_L15
        rw [pb_gdD _ t3, e4, if_neg hlt, pb_gdD _ z0, z5, pb_gdD _ (by decide), pb_gdD _ zw1, hfirst, pb_b1, t4, pn_gdi _ (by omega) (by omega), nI_clamp (by omega), t5 i (by omega), ← nI_succ]
        rfl
      by_cases hq : rx_F (pn_wk N s 0 0) i = f i
      · left
        refine ⟨nI (i + 1), by show cl_X0_isSo_L15 19 37 o τ (nI i) = _; rw [run, if_pos hq], ⟨i + 1, rfl, by omega, fun p hp => ?_⟩, by rw [nI_toInt (by omega), nI_toInt (by omega)]; omega⟩
        by_cases hpi : p = i
        · rw [hpi]; exact hq
        · exact hall p (by omega)
      · right
        exact ⟨(false, τ), by show cl_X0_isSo_L15 19 37 o τ (nI i) = _; rw [run, if_neg hq], by rw [sa_so_mono (by omega : i < n) hq]⟩
end SA
