/-! spared -/
theorem pb_cntg {X ρ τ α : Type} {b : X → Option (X ⊕ ρ)} (st : Nat → α → τ → X) (I : τ → Prop) (g : Nat → α → α) (a : α) (n : Nat) (P : ρ → Prop) (h : ∀ i, i < n → ∀ s, I s → ∃ s', I s' ∧ b (st i (pb_fold g a i) s) = some (.inl (st (i + 1) (g i (pb_fold g a i)) s'))) (hx : ∀ s, I s → ∃ z, b (st n (pb_fold g a n) s) = some (.inr z) ∧ P z) (F : Nat) (hn : n < F) (s : τ) (hs : I s) : ∃ z, dx_lp b F (st 0 a s) = some z ∧ P z := by
  have key : ∀ m i s, m + i = n → I s → ∀ N, m < N → ∃ z, dx_lp b N (st i (pb_fold g a i) s) = some z ∧ P z := by
    intro m
    induction m with
    | zero =>
      intro i s hi hs N hN
      obtain ⟨z, h1, h2⟩ := hx s hs
      obtain ⟨M, rfl⟩ : ∃ M, N = M + 1 := ⟨N - 1, by omega⟩
      have e : i = n := by omega
      subst e
      refine ⟨z, ?_, h2⟩
      unfold dx_lp
      rw [h1]
    | succ m ih =>
      intro i s hi hs N hN
      obtain ⟨M, rfl⟩ : ∃ M, N = M + 1 := ⟨N - 1, by omega⟩
      obtain ⟨s', h1, h2⟩ := h i (by omega) s hs
      obtain ⟨z, h3, h4⟩ := ih (i + 1) s' (by omega) h1 M (by omega)
      refine ⟨z, ?_, h4⟩
      unfold dx_lp
      rw [h2]
      exact h3
  exact key n 0 s (by omega) hs F hn
def nL (n : Nat) : Int64 := Int64.ofNat n
theorem nL_toInt {n : Nat} (h : n < 2 ^ 63) : (nL n).toInt = (n : Int) := by
  unfold nL
  rw [Int64.toInt_ofNat']
  have hs : (Int64.size : Int) = 18446744073709551616 := rfl
  rw [Int.bmod_eq_of_le (by omega) (by omega)]
theorem nL_inj {a b : Nat} (ha : a < 2 ^ 63) (hb : b < 2 ^ 63) : nL a = nL b ↔ a = b := by
  constructor
  · intro h
    have := congrArg Int64.toInt h
    rw [nL_toInt ha, nL_toInt hb] at this
    omega
  · intro h; rw [h]
theorem nL_add (a b : Nat) : nL a + nL b = nL (a + b) := (Int64.ofNat_add a b).symm
theorem nL_mul (a b : Nat) : nL a * nL b = nL (a * b) := (Int64.ofNat_mul a b).symm
theorem nL_div {a b : Nat} (ha : a < 2 ^ 63) (hb : b < 2 ^ 63) : nL a / nL b = nL (a / b) := by
  apply Int64.toInt_inj.mp
  have h1 : a / b ≤ a := Nat.div_le_self a b
  rw [Int64.toInt_div, nL_toInt ha, nL_toInt hb, nL_toInt (by omega)]
  have h2 : (a : Int).tdiv (b : Int) = ((a / b : Nat) : Int) := rfl
  rw [h2]
  generalize a / b = q at h1
  rw [Int.bmod_eq_of_le (by omega) (by omega)]
theorem nL_mod {a b : Nat} (ha : a < 2 ^ 63) (hb : b < 2 ^ 63) : nL a - nL a / nL b * nL b = nL (a % b) := by
  rw [nL_div ha hb, nL_mul]
  have h1 : a = a % b + a / b * b := by rw [Nat.mul_comm]; exact (Nat.mod_add_div a b).symm
  have h2 : nL a = nL (a % b) + nL (a / b * b) := by rw [nL_add, ← h1]
  rw [h2]
  simp
theorem nL_32 {p : Nat} (h : p < 2 ^ 31) : (nI p).toInt64 = nL p := by
  apply Int64.toInt_inj.mp
  rw [Int32.toInt_toInt64, nI_toInt h, nL_toInt (by omega)]
/-- the greatest measure of both -/
theorem pz_eu : ∀ k x y : Nat, x < 2 ^ 62 → y < 2 ^ 62 → y < 2 ^ k → (x ≠ 0 ∨ y ≠ 0) → ∃ g : Nat, g ≠ 0 ∧ g < 2 ^ 62 ∧ ∀ (b : Int64 × Int64 → Option ((Int64 × Int64) ⊕ Int64)) (_ : ∀ x y : Int64, y ≠ 0 → b (x, y) = some (.inl (y, x - x / y * y))) (z : Int64), (b (nL g, 0) = some (.inr z)) → ∀ N, 2 * k < N → dx_lp b N (nL x, nL y) = some z := by
  intro k
  induction k with
  | zero =>
    intro x y hx hy hk h0
    have hy0 : y = 0 := by omega
    subst hy0
    refine ⟨x, by omega, hx, fun b hs z hz N hN => ?_⟩
    obtain ⟨M, rfl⟩ : ∃ M, N = M + 1 := ⟨N - 1, by omega⟩
    unfold dx_lp
    have e : nL 0 = 0 := by decide
    rw [e, hz]
  | succ k ih =>
    intro x y hx hy hk h0
    by_cases hy0 : y = 0
    · subst hy0
      refine ⟨x, by omega, hx, fun b hs z hz N hN => ?_⟩
      obtain ⟨M, rfl⟩ : ∃ M, N = M + 1 := ⟨N - 1, by omega⟩
      unfold dx_lp
      have e : nL 0 = 0 := by decide
      rw [e, hz]
    · have hr : x % y < y := Nat.mod_lt _ (by omega)
      have ny : nL y ≠ 0 := fun h => hy0 ((nL_inj (b := 0) (by omega) (by omega)).mp h)
      by_cases hr0 : x % y = 0
      · refine ⟨y, hy0, hy, fun b hs z hz N hN => ?_⟩
        obtain ⟨M, rfl⟩ : ∃ M, N = M + 2 := ⟨N - 2, by omega⟩
        have s1 : b (nL x, nL y) = some (.inl (nL y, nL (x % y))) := by
          rw [hs _ _ ny, nL_mod (by omega) (by omega)]
        unfold dx_lp
        rw [s1]
        show dx_lp b (M + 1) (nL y, nL (x % y)) = some z
        unfold dx_lp
        have e : nL (x % y) = 0 := by rw [hr0]; decide
        rw [e, hz]
      · have nr : nL (x % y) ≠ 0 := fun h => hr0 ((nL_inj (b := 0) (by omega) (by omega)).mp h)
        have hq : y % (x % y) < x % y := Nat.mod_lt _ (by omega)
        have hq2 : y % (x % y) + x % y ≤ y := by
          have h1 := Nat.mod_add_div y (x % y)
          have h2 : 1 ≤ y / (x % y) := (Nat.le_div_iff_mul_le (by omega)).mpr (by omega)
          have h3 : x % y * 1 ≤ x % y * (y / (x % y)) := Nat.mul_le_mul_left _ h2
          omega
        have hp : 2 ^ (k + 1) = 2 * 2 ^ k := by rw [Nat.pow_succ]; omega
        obtain ⟨g, g1, g2, g3⟩ := ih (x % y) (y % (x % y)) (by omega) (by omega) (by omega) (Or.inl hr0)
        refine ⟨g, g1, g2, fun b hs z hz N hN => ?_⟩
        obtain ⟨M, rfl⟩ : ∃ M, N = M + 2 := ⟨N - 2, by omega⟩
        have s1 : b (nL x, nL y) = some (.inl (nL y, nL (x % y))) := by
          rw [hs _ _ ny, nL_mod (by omega) (by omega)]
        unfold dx_lp
        rw [s1]
        show dx_lp b (M + 1) (nL y, nL (x % y)) = some z
        have s2 : b (nL y, nL (x % y)) = some (.inl (nL (x % y), nL (y % (x % y)))) := by
          rw [hs _ _ nr, nL_mod (by omega) (by omega)]
        unfold dx_lp
        rw [s2]
        exact g3 b hs z hz M (by omega)
theorem pz_me {x y : Nat} (hx : x ≤ 10 ^ 10) (hy : y ≤ 10 ^ 10) (h0 : y ≠ 0) : ∃ g : Nat, g ≠ 0 ∧ g < 2 ^ 62 ∧ cl_X0_measure (nL x) (nL y) = some (nL g) ∧ ∀ w : Int32, mo_part_2 (nL x) (nL y) w = some ((if w = 0 then nL x else nL y) / nL g) := by
  have z0 : ∀ v : Int64, (lg_cmp v 0 = 0 ↔ v = 0) := fun v => (pq_cmp v 0).2.2.1
  have ha : ∀ x y : Int64, y ≠ 0 → cl_X0_measure_L6 x y = some (.inl (y, x - x / y * y)) := by
    intro x y hy
    unfold cl_X0_measure_L6
    rw [if_neg (fun h => hy ((z0 y).mp h)), pb_gdD _ hy]
  obtain ⟨g, g1, g2, g3⟩ := pz_eu 34 x y (by omega) (by omega) (by omega) (Or.inr h0)
  refine ⟨g, g1, g2, ?_, fun w => ?_⟩
  · unfold cl_X0_measure
    refine g3 (fun v => cl_X0_measure_L6 v.1 v.2) ha (nL g) ?_ dx_fu (by unfold dx_fu; omega)
    show cl_X0_measure_L6 (nL g) 0 = _
    unfold cl_X0_measure_L6
    rw [if_pos ((z0 0).mpr rfl)]
    rfl
  · have hb : ∀ x' y' : Int64, y' ≠ 0 → mo_part_2_L6 (nL x) (nL y) w x' y' = some (.inl (y', x' - x' / y' * y')) := by
      intro x' y' hy'
      unfold mo_part_2_L6
      rw [if_neg (fun h => hy' ((z0 y').mp h)), pb_gdD _ hy']
    unfold mo_part_2
    refine g3 (fun v => mo_part_2_L6 (nL x) (nL y) w v.1 v.2) hb _ ?_ dx_fu (by unfold dx_fu; omega)
    show mo_part_2_L6 (nL x) (nL y) w (nL g) 0 = _
    have ng : ¬ nL g = 0 := fun h => g1 ((nL_inj (b := 0) (by omega) (by omega)).mp h)
    unfold mo_part_2_L6 mo_part_2_J41
    rw [if_pos ((z0 0).mpr rfl), pb_gdD _ ng, pb_gdD _ ng]
    split <;> rfl
/-- how likely a set is, in tenths -/
def pz_w (p : Nat) (m : Int32) : Nat → Nat
  | 0 => 1
  | c + 1 => pz_w p m c * (if pb_bt m c = true then p else 10 - p)
theorem pz_w_le {p : Nat} (hp : p ≤ 10) (m : Int32) : ∀ c, pz_w p m c ≤ 10 ^ c := by
  intro c
  induction c with
  | zero => exact Nat.le_refl _
  | succ c ih =>
    show pz_w p m c * _ ≤ _
    rw [Nat.pow_succ]
    exact Nat.mul_le_mul ih (by split <;> omega)
def pz_sum (f : Nat → Nat) : Nat → Nat
  | 0 => 0
  | n + 1 => pz_sum f n + f n
theorem pz_sum_add (f : Nat → Nat) (n : Nat) : ∀ k, pz_sum f (n + k) = pz_sum f n + pz_sum (fun i => f (n + i)) k := by
  intro k
  induction k with
  | zero => rfl
  | succ k ih =>
    show pz_sum f (n + k) + f (n + k) = pz_sum f n + (pz_sum (fun i => f (n + i)) k + f (n + k))
    rw [ih]
    omega
theorem pz_sum_c {f g : Nat → Nat} : ∀ n, (∀ i, i < n → f i = g i) → pz_sum f n = pz_sum g n := by
  intro n
  induction n with
  | zero => intro _; rfl
  | succ n ih =>
    intro h
    show pz_sum f n + f n = pz_sum g n + g n
    rw [ih (fun i hi => h i (by omega)), h n (by omega)]
theorem pz_sum_m (f : Nat → Nat) (q : Nat) : ∀ n, pz_sum (fun i => f i * q) n = pz_sum f n * q := by
  intro n
  induction n with
  | zero => show 0 = 0 * q; omega
  | succ n ih =>
    show pz_sum (fun i => f i * q) n + f n * q = (pz_sum f n + f n) * q
    rw [ih, Nat.add_mul]
theorem pz_tb {m : Nat} (hm : m < 2 ^ 31) {c : Nat} (hc : c < 32) : pb_bt (nI m) c = m.testBit c := by
  unfold pb_bt nI
  rw [Int32.toBitVec_ofNat', BitVec.getLsbD_ofNat]
  simp [hc]
theorem pz_ten {p : Nat} (hp : p ≤ 10) : ∀ C, C ≤ 10 → pz_sum (fun m => pz_w p (nI m) C) (2 ^ C) = 10 ^ C := by
  intro C
  induction C with
  | zero => intro _; rfl
  | succ C ih =>
    intro hC
    have hlt : 2 ^ C ≤ 2 ^ 10 := Nat.pow_le_pow_right (by omega) (by omega)
    have e : 2 ^ (C + 1) = 2 ^ C + 2 ^ C := by rw [Nat.pow_succ]; omega
    rw [e, pz_sum_add]
    have a1 : pz_sum (fun m => pz_w p (nI m) (C + 1)) (2 ^ C) = pz_sum (fun m => pz_w p (nI m) C * (10 - p)) (2 ^ C) := by
      refine pz_sum_c _ (fun m hm => ?_)
      show pz_w p (nI m) C * _ = _
      rw [pz_tb (by omega) (by omega), Nat.testBit_lt_two_pow hm]
      rfl
    have hw : ∀ m, m < 2 ^ C → ∀ c, c ≤ C → pz_w p (nI (2 ^ C + m)) c = pz_w p (nI m) c := by
      intro m hm c
      induction c with
      | zero => intro _; rfl
      | succ c ih2 =>
        intro hc
        show pz_w p (nI (2 ^ C + m)) c * _ = pz_w p (nI m) c * _
        rw [ih2 (by omega), pz_tb (by omega) (by omega), pz_tb (by omega) (by omega), Nat.testBit_two_pow_add_gt (by omega)]
    have a2 : pz_sum (fun i => pz_w p (nI (2 ^ C + i)) (C + 1)) (2 ^ C) = pz_sum (fun m => pz_w p (nI m) C * p) (2 ^ C) := by
      refine pz_sum_c _ (fun m hm => ?_)
      show pz_w p (nI (2 ^ C + m)) C * _ = _
      rw [hw m hm C (Nat.le_refl _), pz_tb (by omega) (by omega), Nat.testBit_two_pow_add_eq, Nat.testBit_lt_two_pow hm]
      rfl
    rw [a1, a2, pz_sum_m, pz_sum_m, ih (by omega), ← Nat.mul_add, Nat.pow_succ]
    congr 1
    omega
def pz_res (o : Option (Int64 × cl_S)) (q : Option (Int64 × mo_S)) (S : pa_S) : Prop := ∃ r σ' μ', o = some (r, σ') ∧ q = some (r, μ') ∧ pc_R σ' S ∧ pm_R μ' S
/-- how likely those are that K takes, so far; how likely all -/
def pz_ab (W : Nat → Nat) (K : Nat → Bool) : Nat → Nat × Nat → Nat × Nat := fun m a => (if K m = true then a.1 + W m else a.1, a.2 + W m)
theorem pz_ab_2 (W : Nat → Nat) (K : Nat → Bool) : ∀ n, (pb_fold (pz_ab W K) (0, 0) n).2 = pz_sum W n ∧ (pb_fold (pz_ab W K) (0, 0) n).1 ≤ pz_sum W n := by
  intro n
  induction n with
  | zero => exact ⟨rfl, Nat.le_refl _⟩
  | succ n ih =>
    refine ⟨?_, ?_⟩
    · show (pb_fold (pz_ab W K) (0, 0) n).2 + W n = pz_sum W n + W n
      rw [ih.1]
    · show (if K n = true then (pb_fold (pz_ab W K) (0, 0) n).1 + W n else (pb_fold (pz_ab W K) (0, 0) n).1) ≤ pz_sum W n + W n
      have := ih.2
      split <;> omega
section PZ
variable {σ : cl_S} {μ : mo_S} {S : pa_S}
theorem pz_c1 (h : pc_R σ S) {s q p m : Nat} (v4 : Int32) (hs : s < pn_P (pa_net S)) (hq : q < pn_P (pa_net S)) (hp : p ≤ 10) (A B : Nat) : ∃ σ', pc_R σ' S ∧ dx_lp (fun x : Int64 × Int32 => cl_X0_spared_L70 19 σ (nI s) (nI q) (nI p) v4 (nL A) (nL B) (nI m) x.1 x.2) dx_fu ((1 : Int64), (0 : Int32)) = some (.inl (nL (if pn_wk (pa_net S) s 0 (nI m) q = 0 then A + pz_w p (nI m) (pn_C (pa_net S)) else A), nL (B + pz_w p (nI m) (pn_C (pa_net S))), nI (m + 1), σ')) := by
  obtain ⟨x0, x3, x5, k0, w1, w2, w3, w4⟩ := pt_cx h
  have hN := h.2.2.1.2
  have hP9 := hN.1
  have hC10 := hN.2.1
  have hpw : 10 ^ pn_C (pa_net S) ≤ 10 ^ 10 := Nat.pow_le_pow_right (by omega) hC10
  have hwl := pz_w_le hp (nI m) (pn_C (pa_net S))
  obtain ⟨σ2, b1, b2, b3⟩ := pt_go h hs (by omega : 0 < 31) (nI m)
  obtain ⟨-, -, -, -, y1, y2, y3, y4⟩ := pt_cx b2
  rw [nI_0] at b1
  have v1 := h.2.2.1.1.2.1.2.1
  let g : Nat → Int64 → Int64 := fun c v => v * nL (if pb_bt (nI m) c = true then p else 10 - p)
  have hf : ∀ c, pb_fold g 1 c = nL (pz_w p (nI m) c) := by
    intro c
    induction c with
    | zero => rfl
    | succ c ih =>
      show pb_fold g 1 c * _ = nL (pz_w p (nI m) c * _)
      rw [ih, nL_mul]
  have stp : ∀ i, i < pn_C (pa_net S) → cl_X0_spared_L70 19 σ (nI s) (nI q) (nI p) v4 (nL A) (nL B) (nI m) (pb_fold g 1 i) (nI i) = some (.inl (g i (pb_fold g 1 i), nI (i + 1))) := by
    intro i hi
    have hle : ¬ nI (pn_C (pa_net S)) ≤ nI i := fun h => absurd ((pb_le (by omega) (by omega)).mp h) (by omega)
    have e10 : ((10 : Int32) - nI p).toInt64 = nL (10 - p) := by
      rw [pl_10, pb_sub hp, nL_32 (by omega)]
    unfold cl_X0_spared_L70
    rw [pb_gdD _ x0, x3, pb_gdD _ (by decide), pb_gdD _ k0, v1, if_neg hle, pn_c_has (by omega), pb_b1, nL_32 (by omega), e10, ← nI_succ]
    show _ = some (Sum.inl (pb_fold g 1 i * nL (if pb_bt (nI m) i = true then p else 10 - p), nI (i + 1)))
    cases pb_bt (nI m) i <;> rfl
  by_cases hw0 : pz_w p (nI m) (pn_C (pa_net S)) = 0
  · refine ⟨σ, h, ?_⟩
    refine pb_lpf (b := fun x : Int64 × Int32 => cl_X0_spared_L70 19 σ (nI s) (nI q) (nI p) v4 (nL A) (nL B) (nI m) x.1 x.2) g 1 (pn_C (pa_net S)) _ stp ?_ (by omega)
    show cl_X0_spared_L70 19 σ (nI s) (nI q) (nI p) v4 (nL A) (nL B) (nI m) (pb_fold g 1 (pn_C (pa_net S))) (nI (pn_C (pa_net S))) = _
    have hz : lg_cmp (nL (pz_w p (nI m) (pn_C (pa_net S)))) 0 ≤ 0 := by rw [hw0]; decide
    unfold cl_X0_spared_L70
    rw [pb_gdD _ x0, x3, pb_gdD _ (by decide), pb_gdD _ k0, v1, if_pos ((pb_le (by omega) (by omega)).mpr (Nat.le_refl _)), hf, if_pos hz, nL_add, ← nI_succ, hw0]
    show some (Sum.inr (Sum.inl (nL A, nL (B + 0), nI (m + 1), σ))) = _
    split <;> rfl
  · refine ⟨σ2, b2, ?_⟩
    refine pb_lpf (b := fun x : Int64 × Int32 => cl_X0_spared_L70 19 σ (nI s) (nI q) (nI p) v4 (nL A) (nL B) (nI m) x.1 x.2) g 1 (pn_C (pa_net S)) _ stp ?_ (by omega)
    show cl_X0_spared_L70 19 σ (nI s) (nI q) (nI p) v4 (nL A) (nL B) (nI m) (pb_fold g 1 (pn_C (pa_net S))) (nI (pn_C (pa_net S))) = _
    have hz : ¬ lg_cmp (nL (pz_w p (nI m) (pn_C (pa_net S)))) 0 ≤ 0 := by
      rw [(pq_cmp _ _).2.2.2, Int64.le_iff_toInt_le, nL_toInt (by omega)]
      intro h9
      have : (0 : Int64).toInt = 0 := by decide
      omega
    unfold cl_X0_spared_L70
    rw [pb_gdD _ x0, x3, pb_gdD _ (by decide), pb_gdD _ k0, v1, if_pos ((pb_le (by omega) (by omega)).mpr (Nat.le_refl _)), hf, if_neg hz, nL_add, nL_add, ← nI_succ, x5, pb_gdD _ (by decide), pb_gdD _ (by decide), pb_gdD _ w1, b1, pb_b2, pb_gdD _ (by decide), pb_gdD _ y1, y2, pb_gdD _ (by decide), pb_gdD _ y3, y4, pn_gdi _ (by omega) (by omega), nI_clamp (by omega), b3 q (by omega)]
    by_cases hk : pn_wk (pa_net S) s 0 (nI m) q = 0
    · rw [if_pos hk, if_pos hk]
      rfl
    · rw [if_neg hk, if_neg hk]
      rfl
theorem pz_m1 (hm : pm_R μ S) (hN : pn_ok (pa_net S)) {s q p m : Nat} (v4 : Int32) (v7 : Int64) (hs : s < pn_P (pa_net S)) (hq : q < pn_P (pa_net S)) (hp : p ≤ 10) (A : Nat) : ∃ μ', pm_R μ' S ∧ dx_lp (fun x : Int64 × Int32 => mo_spared_L96 μ (nI s) (nI q) (nI p) v4 (nL A) v7 (nI m) x.1 x.2) dx_fu ((1 : Int64), (0 : Int32)) = some (.inl (nL (if pn_wk (pa_net S) s 0 (nI m) q = 0 then A + pz_w p (nI m) (pn_C (pa_net S)) else A), nI (m + 1), μ')) := by
  have hP9 := hN.1
  have hC10 := hN.2.1
  have e1 : (1 : Int32).toNatClampNeg = 1 := by decide
  obtain ⟨μ2, b1, b2, b3⟩ := pt_mw hm hN hs (by omega : 0 < 31) (nI m)
  rw [nI_0] at b1
  let g : Nat → Int64 → Int64 := fun c v => v * nL (if pb_bt (nI m) c = true then p else 10 - p)
  have hf : ∀ c, pb_fold g 1 c = nL (pz_w p (nI m) c) := by
    intro c
    induction c with
    | zero => rfl
    | succ c ih =>
      show pb_fold g 1 c * _ = nL (pz_w p (nI m) c * _)
      rw [ih, nL_mul]
  refine ⟨μ2, b2, ?_⟩
  refine pb_lpf (b := fun x : Int64 × Int32 => mo_spared_L96 μ (nI s) (nI q) (nI p) v4 (nL A) v7 (nI m) x.1 x.2) g 1 (pn_C (pa_net S)) _ (fun i hi => ?_) ?_ (by omega)
  · show mo_spared_L96 μ (nI s) (nI q) (nI p) v4 (nL A) v7 (nI m) (pb_fold g 1 i) (nI i) = _
    have hle : ¬ nI (pn_C (pa_net S)) ≤ nI i := fun h => absurd ((pb_le (by omega) (by omega)).mp h) (by omega)
    have e10 : ((10 : Int32) - nI p).toInt64 = nL (10 - p) := by
      rw [pl_10, pb_sub hp, nL_32 (by omega)]
    unfold mo_spared_L96
    rw [e1, hm.1.2.1, if_neg hle, pn_m_has (by omega), pb_b1, nL_32 (by omega), e10, ← nI_succ]
    show _ = some (Sum.inl (pb_fold g 1 i * nL (if pb_bt (nI m) i = true then p else 10 - p), nI (i + 1)))
    cases pb_bt (nI m) i <;> rfl
  · show mo_spared_L96 μ (nI s) (nI q) (nI p) v4 (nL A) v7 (nI m) (pb_fold g 1 (pn_C (pa_net S))) (nI (pn_C (pa_net S))) = _
    unfold mo_spared_L96
    rw [e1, hm.1.2.1, if_pos ((pb_le (by omega) (by omega)).mpr (Nat.le_refl _)), hf, nL_add, ← nI_succ, b1, pb_b1, pn_gdi _ (by omega) (by omega), nI_clamp (by omega), (b3 q (by omega)).1]
    by_cases hk : pn_wk (pa_net S) s 0 (nI m) q = 0
    · rw [if_pos hk, if_pos hk]
      rfl
    · rw [if_neg hk, if_neg hk]
      have e0 : nL A + (0 : Int64) = nL A := by
        show nL A + nL 0 = _
        rw [nL_add]
        rfl
      rw [e0]
      rfl
theorem pz_spared (h : pc_R σ S) (hm : pm_R μ S) (v w x y : Int32) : pz_res (cl_X0_spared 19 σ v w x y) (mo_spared μ v w x y) S := by
  have hN := h.2.2.1.2
  have hP9 := hN.1
  have hC10 := hN.2.1
  have e1 : (1 : Int32).toNatClampNeg = 1 := by decide
  have i10 : cl_X0_isIn x.toInt64 (0 : Int64) (10 : Int64) = some (pq_in x 0 (nI 10)) := pq_c x 0 10
  have i1 : cl_X0_isIn y.toInt64 (0 : Int64) (1 : Int64) = some (pq_in y 0 (nI 1)) := pq_c y 0 1
  have j10 : mo_in x (0 : Int32) (10 : Int32) = some (pq_in x 0 (nI 10)) := pq_m x 0 10
  have j1 : mo_in y (0 : Int32) (1 : Int32) = some (pq_in y 0 (nI 1)) := pq_m y 0 1
  unfold cl_X0_spared mo_spared
  rw [pb_gdD _ h.1.2.1.1, pq_cP h, pq_cP h, pq_mP hm, pq_mP hm, i10, i1, j10, j1]
  simp only [pb_b1]
  cases hv : pq_in v 0 (nI (pn_P (pa_net S)) - 1) with
  | false => exact ⟨_, _, _, rfl, rfl, h, hm⟩
  | true =>
    cases hw : pq_in w 0 (nI (pn_P (pa_net S)) - 1) with
    | false => exact ⟨_, _, _, rfl, rfl, h, hm⟩
    | true =>
      cases hx : pq_in x 0 (nI 10) with
      | false => exact ⟨_, _, _, rfl, rfl, h, hm⟩
      | true =>
        cases hy : pq_in y 0 (nI 1) with
        | false => exact ⟨_, _, _, rfl, rfl, h, hm⟩
        | true =>
          obtain ⟨s, hs, rfl⟩ := (pq_lt (by omega)).mp hv
          obtain ⟨q, hq, rfl⟩ := (pq_lt (by omega)).mp hw
          obtain ⟨p, hp, rfl⟩ := (pq_le (by omega)).mp hx
          simp only [pb_ibT]
          obtain ⟨c1, c2, c3, c4⟩ := pu_all hC10
          let W : Nat → Nat := fun m => pz_w p (nI m) (pn_C (pa_net S))
          let K : Nat → Bool := fun m => decide (pn_wk (pa_net S) s 0 (nI m) q = 0)
          have hten : pz_sum W (2 ^ pn_C (pa_net S)) = 10 ^ pn_C (pa_net S) := pz_ten hp _ hC10
          obtain ⟨f2, f1⟩ := pz_ab_2 W K (2 ^ pn_C (pa_net S))
          have hpw : 10 ^ pn_C (pa_net S) ≤ 10 ^ 10 := Nat.pow_le_pow_right (by omega) hC10
          have hpp : 0 < 10 ^ pn_C (pa_net S) := Nat.pow_pos (by omega)
          obtain ⟨gg, g1, g2, g3, g4⟩ := pz_me (x := (pb_fold (pz_ab W K) (0, 0) (2 ^ pn_C (pa_net S))).1) (y := 10 ^ pn_C (pa_net S)) (by omega) hpw (by omega)
          have ng : ¬ nL gg = 0 := fun h => g1 ((nL_inj (b := 0) (by omega) (by omega)).mp h)
          have keyA := pb_cntg (b := fun x : Int64 × Int64 × Int32 × cl_S => cl_X0_spared_L52 19 x.2.2.2 (nI s) (nI q) (nI p) y x.1 x.2.1 x.2.2.1) (fun i (a : Nat × Nat) σ => (nL a.1, nL a.2, nI i, σ)) (fun σ => pc_R σ S) (pz_ab W K) (0, 0) (2 ^ pn_C (pa_net S)) (fun z => z.1 = (if y = 0 then nL (pb_fold (pz_ab W K) (0, 0) (2 ^ pn_C (pa_net S))).1 else nL (10 ^ pn_C (pa_net S))) / nL gg ∧ pc_R z.2 S) (fun i hi σ hσ => ?_) (fun σ hσ => ?_) dx_fu (by unfold dx_fu; omega) σ h
          · obtain ⟨z, h1, h2, h3⟩ := keyA
            have keyB := pb_cntg (b := fun x : Int64 × Int32 × mo_S => mo_spared_L77 x.2.2 (nI s) (nI q) (nI p) y (nL (10 ^ pn_C (pa_net S))) x.1 x.2.1) (fun i (a : Nat × Nat) μ => (nL a.1, nI i, μ)) (fun μ => pm_R μ S) (pz_ab W K) (0, 0) (2 ^ pn_C (pa_net S)) (fun z => z.1 = (if y = 0 then nL (pb_fold (pz_ab W K) (0, 0) (2 ^ pn_C (pa_net S))).1 else nL (10 ^ pn_C (pa_net S))) / nL gg ∧ pm_R z.2 S) (fun i hi μ hμ => ?_) (fun μ hμ => ?_) dx_fu (by unfold dx_fu; omega) μ hm
            · obtain ⟨t, k1, k2, k3⟩ := keyB
              have hft : ∀ c, pb_fold (fun _ (v : Int64) => v * 10) 1 c = nL (10 ^ c) := by
                intro c
                induction c with
                | zero => rfl
                | succ c ih =>
                  show pb_fold (fun _ (v : Int64) => v * 10) 1 c * 10 = _
                  rw [ih, Nat.pow_succ]
                  exact nL_mul _ 10
              have keyC := pb_lpf (b := fun x : Int64 × Int32 => mo_spared_L49 μ (nI s) (nI q) (nI p) y (0 : Int64) x.1 x.2) (fun _ v => v * 10) 1 (pn_C (pa_net S)) t (fun i hi => ?_) ?_ (by omega)
              · rw [keyC]
                have e0 : (nL ((0, 0) : Nat × Nat).1, nL ((0, 0) : Nat × Nat).2, nI 0, σ) = ((0 : Int64), (0 : Int64), (0 : Int32), σ) := rfl
                rw [e0] at h1
                exact ⟨z.1, z.2, t.2, h1, by rw [h2, ← k2], h3, k3⟩
              · show mo_spared_L49 μ (nI s) (nI q) (nI p) y 0 (pb_fold (fun _ (v : Int64) => v * 10) 1 i) (nI i) = _
                have hle : ¬ nI (pn_C (pa_net S)) ≤ nI i := fun h => absurd ((pb_le (by omega) (by omega)).mp h) (by omega)
                unfold mo_spared_L49
                rw [e1, hm.1.2.1, if_neg hle, ← nI_succ]
              · show mo_spared_L49 μ (nI s) (nI q) (nI p) y 0 (pb_fold (fun _ (v : Int64) => v * 10) 1 (pn_C (pa_net S))) (nI (pn_C (pa_net S))) = _
                unfold mo_spared_L49
                rw [e1, hm.1.2.1, if_pos ((pb_le (by omega) (by omega)).mpr (Nat.le_refl _)), hft]
                have e0 : (nL ((0, 0) : Nat × Nat).1, nI 0, μ) = ((0 : Int64), (0 : Int32), μ) := rfl
                rw [e0] at k1
                rw [k1]
                rfl
            · obtain ⟨μ', n1, n2⟩ := pz_m1 hμ hN (m := i) y (nL (10 ^ pn_C (pa_net S))) hs hq hp (pb_fold (pz_ab W K) (0, 0) i).1
              refine ⟨μ', n1, ?_⟩
              show mo_spared_L77 μ (nI s) (nI q) (nI p) y (nL (10 ^ pn_C (pa_net S))) (nL (pb_fold (pz_ab W K) (0, 0) i).1) (nI i) = _
              have hle : ¬ nI (2 ^ pn_C (pa_net S)) ≤ nI i := fun h => absurd ((pb_le (by omega) (by omega)).mp h) (by omega)
              unfold mo_spared_L77
              rw [e1, hμ.1.2.1, c2, if_neg hle, n2]
              generalize pb_fold (pz_ab W K) (0, 0) i = a
              unfold pz_ab
              by_cases hk : pn_wk (pa_net S) s 0 (nI i) q = 0
              · rw [if_pos hk, if_pos (show K i = true from decide_eq_true hk)]
              · rw [if_neg hk, if_neg (show ¬ K i = true from fun h => hk (of_decide_eq_true h))]
            · refine ⟨(_, μ), ?_, rfl, hμ⟩
              show mo_spared_L77 μ (nI s) (nI q) (nI p) y (nL (10 ^ pn_C (pa_net S))) (nL (pb_fold (pz_ab W K) (0, 0) (2 ^ pn_C (pa_net S))).1) (nI (2 ^ pn_C (pa_net S))) = _
              unfold mo_spared_L77
              rw [e1, hμ.1.2.1, c2, if_pos ((pb_le (by omega) (by omega)).mpr (Nat.le_refl _)), g4]
              rfl
          · obtain ⟨σ', n1, n2⟩ := pz_c1 hσ (m := i) y hs hq hp (pb_fold (pz_ab W K) (0, 0) i).1 (pb_fold (pz_ab W K) (0, 0) i).2
            obtain ⟨x0, x3, x5, k0, w1, w2, w3, w4⟩ := pt_cx hσ
            have hall : cl_X2_all 30 σ = some (nI (2 ^ pn_C (pa_net S) - 1)) := by
              unfold cl_X2_all
              rw [pb_gdD _ k0, hσ.2.2.1.1.2.1.2.1, c1]
            refine ⟨σ', n1, ?_⟩
            show cl_X0_spared_L52 19 σ (nI s) (nI q) (nI p) y (nL (pb_fold (pz_ab W K) (0, 0) i).1) (nL (pb_fold (pz_ab W K) (0, 0) i).2) (nI i) = _
            have hlt : ¬ nI (2 ^ pn_C (pa_net S) - 1) < nI i := fun h => absurd ((pb_lt (by omega) (by omega)).mp h) (by omega)
            unfold cl_X0_spared_L52
            rw [pb_gdD _ x0, x3, pb_gdD _ (by decide), pb_gdD _ k0, hall, pb_b1, if_neg hlt, n2]
            generalize pb_fold (pz_ab W K) (0, 0) i = a
            unfold pz_ab
            by_cases hk : pn_wk (pa_net S) s 0 (nI i) q = 0
            · rw [if_pos hk, if_pos (show K i = true from decide_eq_true hk)]
            · rw [if_neg hk, if_neg (show ¬ K i = true from fun h => hk (of_decide_eq_true h))]
          · obtain ⟨x0, x3, x5, k0, w1, w2, w3, w4⟩ := pt_cx hσ
            have hall : cl_X2_all 30 σ = some (nI (2 ^ pn_C (pa_net S) - 1)) := by
              unfold cl_X2_all
              rw [pb_gdD _ k0, hσ.2.2.1.1.2.1.2.1, c1]
            refine ⟨(_, σ), ?_, rfl, hσ⟩
            show cl_X0_spared_L52 19 σ (nI s) (nI q) (nI p) y (nL (pb_fold (pz_ab W K) (0, 0) (2 ^ pn_C (pa_net S))).1) (nL (pb_fold (pz_ab W K) (0, 0) (2 ^ pn_C (pa_net S))).2) (nI (2 ^ pn_C (pa_net S))) = _
            have hlt : nI (2 ^ pn_C (pa_net S) - 1) < nI (2 ^ pn_C (pa_net S)) := (pb_lt (by omega) (by omega)).mpr (by omega)
            unfold cl_X0_spared_L52 cl_X0_spared_J175
            rw [pb_gdD _ x0, x3, pb_gdD _ (by decide), pb_gdD _ k0, hall, pb_b1, if_pos hlt, f2, hten, g3, pb_b1, pb_gdD _ ng, pb_b1, pb_gdD _ ng]
            split <;> rfl
end PZ
