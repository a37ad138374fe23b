/-! drawn -/
def rz_x (x : Nat) : Nat := x * 16807 % 2147483647
/-- how many are ill -/
def rz_g (D : Nat → Int32) : Nat → Int32 → Int32 := fun p a => if D p = 0 then a + 0 else a + 1
section RZ
variable {σ : cl_S} {μ : mo_S} {S : pa_S} {N : pn_N}
theorem rz_acc (D : Nat → Int32) (a b : Int32) : ∀ n, pb_fold (rz_g D) (a + b) n = a + pb_fold (rz_g D) b n := by
  intro n
  induction n with
  | zero => rfl
  | succ n ih =>
    show rz_g D n (pb_fold (rz_g D) (a + b) n) = a + rz_g D n (pb_fold (rz_g D) b n)
    rw [ih]
    unfold rz_g
    split
    · rw [Int32.add_assoc]
    · rw [Int32.add_assoc]
theorem rz_tail (D : Nat → Int32) (a : Int32) {P : Nat} (hP : P ≤ 9) (h : ∀ p, P ≤ p → p < 9 → D p = 0) : pb_fold (rz_g D) a 9 = pb_fold (rz_g D) a P := by
  have key : ∀ k, P + k ≤ 9 → pb_fold (rz_g D) a (P + k) = pb_fold (rz_g D) a P := by
    intro k
    induction k with
    | zero => intro _; rfl
    | succ k ih =>
      intro hk
      show rz_g D (P + k) (pb_fold (rz_g D) a (P + k)) = _
      rw [ih (by omega)]
      unfold rz_g
      rw [if_pos (h (P + k) (by omega) (by omega))]
      simp
  have := key (9 - P) (by omega)
  rw [show P + (9 - P) = 9 by omega] at this
  exact this
theorem rz_many (h : pc_R σ S) {D : Nat → Int32} (hD : ∀ p, p < 9 → cl_i σ 45 p = D p) : cl_X3_many 44 σ = some (pb_fold (rz_g D) 0 9) := by
  obtain ⟨-, -, -, -, w1, w2, w3, w4⟩ := pt_cx h
  unfold cl_X3_many
  refine pb_lpf (b := fun x : Int32 × Int32 => cl_X3_many_L4 44 σ x.1 x.2) (rz_g D) 0 9 _ (fun i hi => ?_) rfl (by omega)
  show cl_X3_many_L4 44 σ (pb_fold (rz_g D) 0 i) (nI i) = _
  have h9 : ¬ (9 : Int32) ≤ nI i := fun h => absurd ((pb_le (a := 9) (by omega) (by omega)).mp h) (by omega)
  unfold cl_X3_many_L4
  rw [if_neg h9, pb_gdD _ w1, w2, pb_gdD _ (by decide), pb_gdD _ w3, w4, pn_gdi _ (by omega) (by omega), nI_clamp (by omega), hD i hi, ← nI_succ]
  unfold rz_g
  split <;> rfl
theorem rz_32 {n : Nat} (h : n < 2 ^ 31) : (nL n).toInt32 = nI n := by
  apply Int32.toInt_inj.mp
  rw [Int64.toInt_toInt32, nL_toInt (by omega), nI_toInt h]
  rw [Int.bmod_eq_of_le (by omega) (by omega)]
def rz_N (N : pn_N) (x : Nat) : pn_N := if 0 < pn_C N then ry_D N (x % pn_C N) (x / 16 % 31) else N
def rz_c (N : pn_N) (s : Nat) : Int32 := pb_fold (rz_g (pn_wk N s 0 0)) 0 (pn_P N)
/-- sum, number, net: before each round -/
def rz_Z (N : pn_N) (s seed : Nat) : Nat → Int32 × Nat × pn_N
  | 0 => (0, seed, N)
  | i + 1 => ((rz_Z N s seed i).1 + rz_c (rz_N (rz_Z N s seed i).2.2 (rz_x (rz_Z N s seed i).2.1)) s, rz_x (rz_Z N s seed i).2.1, rz_N (rz_Z N s seed i).2.2 (rz_x (rz_Z N s seed i).2.1))
theorem rz_ok (hok : pn_ok N) (x : Nat) : pn_ok (rz_N N x) ∧ pn_P (rz_N N x) = pn_P N ∧ pn_C (rz_N N x) = pn_C N := by
  unfold rz_N
  split
  · have : x / 16 % 31 < 31 := Nat.mod_lt _ (by decide)
    exact ⟨ry_Dok hok (by omega), rfl, rfl⟩
  · exact ⟨hok, rfl, rfl⟩
theorem rz_Zok (hok : pn_ok N) (s : Nat) {seed : Nat} (hs : seed < 2 ^ 31) : ∀ i, pn_ok (rz_Z N s seed i).2.2 ∧ pn_P (rz_Z N s seed i).2.2 = pn_P N ∧ (rz_Z N s seed i).2.1 < 2 ^ 31 := by
  intro i
  induction i with
  | zero => exact ⟨hok, rfl, hs⟩
  | succ i ih =>
    obtain ⟨a1, a2, a3⟩ := ih
    obtain ⟨b1, b2, b3⟩ := rz_ok a1 (rz_x (rz_Z N s seed i).2.1)
    refine ⟨b1, b2.trans a2, ?_⟩
    show rz_x (rz_Z N s seed i).2.1 < 2 ^ 31
    unfold rz_x
    have : (rz_Z N s seed i).2.1 * 16807 % 2147483647 < 2147483647 := Nat.mod_lt _ (by decide)
    omega
theorem rz_lx {x : Nat} (hx : x < 2 ^ 31) : (nL x * (16807 : Int64)) - (nL x * (16807 : Int64)) / (2147483647 : Int64) * (2147483647 : Int64) = nL (rz_x x) := by
  have e1 : nL x * (16807 : Int64) = nL (x * 16807) := nL_mul x 16807
  rw [e1]
  exact nL_mod (b := 2147483647) (by omega) (by decide)
theorem rz_ix {x C : Nat} (hx : x < 2 ^ 31) (hC : 0 < C ∧ C ≤ 10) : (nL x - nL x / (nI C).toInt64 * (nI C).toInt64).toInt32 = nI (x % C) ∧ x % C < C ∧ ¬ (nI C).toInt64 = 0 := by
  have hm : x % C < C := Nat.mod_lt _ hC.1
  rw [nL_32 (by omega), nL_mod (by omega) (by omega), rz_32 (by omega)]
  exact ⟨rfl, hm, fun h => by have := (nL_inj (b := 0) (by omega) (by omega)).mp h; omega⟩
theorem rz_vx {x : Nat} (hx : x < 2 ^ 31) : ((nL x / (16 : Int64)) - (nL x / (16 : Int64)) / (31 : Int64) * (31 : Int64)).toInt32 = nI (x / 16 % 31) := by
  have e1 : nL x / (16 : Int64) = nL (x / 16) := nL_div (b := 16) (by omega) (by decide)
  have h1 : x / 16 ≤ x := Nat.div_le_self _ _
  have h2 : x / 16 % 31 < 31 := Nat.mod_lt _ (by decide)
  have e2 : nL (x / 16) - nL (x / 16) / (31 : Int64) * (31 : Int64) = nL (x / 16 % 31) := nL_mod (b := 31) (by omega) (by decide)
  rw [e1, e2, rz_32 (by omega)]
theorem rz_cstep (h : pc_R σ S) (hN : pc_N σ 37 N) (hok : pn_ok N) {s n i x : Nat} (hs : s < pn_P N) (hi : i < n) (hn : n ≤ 30) (hx : x < 2 ^ 31) (a : Int32) : ∃ τ, pc_R τ S ∧ pc_N τ 37 (rz_N N (rz_x x)) ∧ cl_X0_drawn_L51 19 σ (nI s) (nI n) 37 a (nL x) (nI i) = some (.inl (a + rz_c (rz_N N (rz_x x)) s, nL (rz_x x), nI (i + 1), τ)) := by
  obtain ⟨b1, b2, b3⟩ := rz_ok hok (rz_x x)
  have hxx : rz_x x < 2 ^ 31 := by
    unfold rz_x
    have : x * 16807 % 2147483647 < 2147483647 := Nat.mod_lt _ (by decide)
    omega
  have hle : ¬ nI n ≤ nI i := fun h => absurd ((pb_le (by omega) (by omega)).mp h) (by omega)
  have hP9 := hok.1
  have hC10 := hok.2.1
  have J : ∀ τ, pc_R τ S → pc_N τ 37 (rz_N N (rz_x x)) → ∃ τ', pc_R τ' S ∧ pc_N τ' 37 (rz_N N (rz_x x)) ∧ cl_X0_drawn_J104 19 τ (nI s) (nI n) 37 a (nL (rz_x x)) (nI i) = some (.inl (a + rz_c (rz_N N (rz_x x)) s, nL (rz_x x), nI (i + 1), τ')) := by
    intro τ hτ hτN
    obtain ⟨τ', g1, g2, g3, g4⟩ := ry_go hτ hτN b1 (by rw [b2]; exact hs) (by omega : 0 < 31) 0
    rw [nI_0] at g1
    obtain ⟨x0, x3, x5, k0, w1, w2, w3, w4⟩ := pt_cx hτ
    refine ⟨τ', g2, g3, ?_⟩
    have hm := rz_many g2 g4
    unfold cl_X0_drawn_J104
    rw [pb_gdD _ x0, x5, pb_gdD _ (by decide), pb_gdD _ w1, g1, pb_b2, pb_gdD _ (by decide), pb_gdD _ (pt_cx g2).2.2.2.2.1, hm, pb_b1, ← nI_succ]
    rw [rz_tail (pn_wk (rz_N N (rz_x x)) s 0 0) 0 (P := pn_P (rz_N N (rz_x x))) (by omega) (fun p h1 h2 => ry_0 b1 (by rw [b2]; exact hs) 0 h1 h2)]
    rfl
  unfold cl_X0_drawn_L51
  rw [if_neg hle, pb_let, rz_lx hx, pb_gdD _ hN.1.2.1, hN.2.1.2.1]
  by_cases hC : 0 < pn_C N
  · have hC0 : ¬ nI (pn_C N) ≤ 0 := fun h => absurd ((pb_le (b := 0) (by omega) (by omega)).mp h) (by omega)
    obtain ⟨e1, e2, e3⟩ := rz_ix hxx ⟨hC, hC10⟩
    have r8 : cl_r σ 37 8 = 42 := hN.1.2.2.2.2.2.2.1.2.2
    have k42 : cl_k σ 42 = 20 := hN.1.2.2.2.2.2.2.1.1
    have l42 : cl_l σ 42 = 10 := hN.1.2.2.2.2.2.2.1.2.1
    rw [if_neg hC0, r8, pb_gdD _ (by decide), pb_gdD _ e3, pb_gdD _ k42, l42, e1, pn_gdi _ (by omega) (by omega), nI_clamp (by omega), rz_vx hxx, pb_let]
    obtain ⟨c1, c2⟩ := ry_cD h hN hok (rz_x x % pn_C N) (rz_x x / 16 % 31)
    have eN : rz_N N (rz_x x) = ry_D N (rz_x x % pn_C N) (rz_x x / 16 % 31) := by unfold rz_N; rw [if_pos hC]
    rw [← eN] at c2
    exact J _ c1 c2
  · have hC0 : nI (pn_C N) ≤ 0 := (pb_le (b := 0) (by omega) (by omega)).mpr (by omega)
    have eN : rz_N N (rz_x x) = N := by unfold rz_N; rw [if_neg hC]
    rw [if_pos hC0]
    exact J σ h (by rw [eN]; exact hN)
theorem rz_mstep (hm : pm_R μ S) (hN : pn_m (μ.2 7) N) (hok : pn_ok N) {s n i x : Nat} (hs : s < pn_P N) (hi : i < n) (hn : n ≤ 30) (hx : x < 2 ^ 31) (a : Int32) : ∃ ν, pm_R ν S ∧ pn_m (ν.2 7) (rz_N N (rz_x x)) ∧ mo_drawn_L54 μ (nI s) (nI n) (nL x) a (nI i) = some (.inl (nL (rz_x x), a + rz_c (rz_N N (rz_x x)) s, nI (i + 1), ν)) := by
  obtain ⟨b1, b2, b3⟩ := rz_ok hok (rz_x x)
  have hxx : rz_x x < 2 ^ 31 := by
    unfold rz_x
    have : x * 16807 % 2147483647 < 2147483647 := Nat.mod_lt _ (by decide)
    omega
  have hle : ¬ nI n ≤ nI i := fun h => absurd ((pb_le (by omega) (by omega)).mp h) (by omega)
  have hP9 := hok.1
  have hC10 := hok.2.1
  have e1 : (1 : Int32).toNatClampNeg = 1 := by decide
  have e0 : (0 : Int32).toNatClampNeg = 0 := by decide
  have J : ∀ ν, pm_R ν S → pn_m (ν.2 7) (rz_N N (rz_x x)) → ∃ ν', pm_R ν' S ∧ pn_m (ν'.2 7) (rz_N N (rz_x x)) ∧ mo_drawn_J115 ν (nI s) (nI n) (nL (rz_x x)) a (nI i) = some (.inl (nL (rz_x x), a + rz_c (rz_N N (rz_x x)) s, nI (i + 1), ν')) := by
    intro ν hν hνN
    obtain ⟨ν', g1, g2, g3, g4⟩ := ry_mw hν hνN b1 (by rw [b2]; exact hs) (by omega : 0 < 31) 0
    rw [nI_0] at g1
    refine ⟨ν', g2, g3, ?_⟩
    unfold mo_drawn_J115
    rw [g1, pb_b1]
    refine pb_lpf (b := fun x_1 : Int32 × Int32 => mo_drawn_L129 ν' (nI s) (nI n) (nL (rz_x x)) (nI i) x_1.1 x_1.2) (rz_g (pn_wk (rz_N N (rz_x x)) s 0 0)) a (pn_P (rz_N N (rz_x x))) _ (fun k hk => ?_) ?_ (by omega)
    · show mo_drawn_L129 ν' (nI s) (nI n) (nL (rz_x x)) (nI i) _ (nI k) = _
      have hk9 : k < 9 := by omega
      have hle2 : ¬ nI (pn_P (rz_N N (rz_x x))) ≤ nI k := fun h => absurd ((pb_le (by omega) (by omega)).mp h) (by omega)
      unfold mo_drawn_L129
      rw [e0, g3.1, if_neg hle2, pn_gdi _ hk9 (by omega), nI_clamp (by omega), g4 k hk9, ← nI_succ]
      generalize pb_fold (rz_g (pn_wk (rz_N N (rz_x x)) s 0 0)) a k = acc
      unfold rz_g
      split <;> rfl
    · show mo_drawn_L129 ν' (nI s) (nI n) (nL (rz_x x)) (nI i) _ (nI (pn_P (rz_N N (rz_x x)))) = _
      unfold mo_drawn_L129
      rw [e0, g3.1, if_pos ((pb_le (by omega) (by omega)).mpr (Nat.le_refl _)), ← nI_succ]
      have := rz_acc (pn_wk (rz_N N (rz_x x)) s 0 0) a 0 (pn_P (rz_N N (rz_x x)))
      have ea : a + 0 = a := by simp
      rw [ea] at this
      rw [this]
      rfl
  unfold mo_drawn_L54
  rw [if_neg hle, e1, hN.2.1, rz_lx hx]
  by_cases hC : 0 < pn_C N
  · have hC0 : ¬ nI (pn_C N) ≤ 0 := fun h => absurd ((pb_le (b := 0) (by omega) (by omega)).mp h) (by omega)
    obtain ⟨g1, g2, g3⟩ := rz_ix hxx ⟨hC, hC10⟩
    rw [if_neg hC0, pb_gdD _ g3, g1, pn_i22, pn_i24, pn_gdi _ (by omega) (by omega), nI_clamp (by omega), rz_vx hxx]
    obtain ⟨c1, c2⟩ := ry_mD hm hN hok (rz_x x % pn_C N) (rz_x x / 16 % 31)
    have eN : rz_N N (rz_x x) = ry_D N (rz_x x % pn_C N) (rz_x x / 16 % 31) := by unfold rz_N; rw [if_pos hC]
    rw [← eN] at c2
    exact J _ c1 c2
  · have hC0 : nI (pn_C N) ≤ 0 := (pb_le (b := 0) (by omega) (by omega)).mpr (by omega)
    have eN : rz_N N (rz_x x) = N := by unfold rz_N; rw [if_neg hC]
    rw [if_pos hC0]
    exact J μ hm (by rw [eN]; exact hN)
theorem rz_drawn (h : pc_R σ S) (hm : pm_R μ S) (v w x : Int32) : pq_res (cl_X0_drawn 19 σ v w x) (mo_drawn μ v w x) S := by
  have hN := h.2.2.1.2
  have hP9 := hN.1
  have bad : pq_res (some ((-1000001 : Int32), σ)) (some ((-1000001 : Int32), μ)) S := ⟨_, _, _, rfl, rfl, h, hm⟩
  have i1 : cl_X0_isIn w.toInt64 (0 : Int64) (30 : Int64) = some (pq_in w 0 (nI 30)) := pq_c w 0 30
  have j1 : mo_in w (0 : Int32) (30 : Int32) = some (pq_in w 0 (nI 30)) := pq_m w 0 30
  have i2 : cl_X0_isIn x.toInt64 (1 : Int64) (999999 : Int64) = some (pq_in x (nI 1) (nI 999999)) := pq_c x 1 999999
  have j2 : mo_in x (1 : Int32) (999999 : Int32) = some (pq_in x (nI 1) (nI 999999)) := pq_m x 1 999999
  unfold cl_X0_drawn mo_drawn
  rw [pb_gdD _ h.1.2.1.1, pq_cP h, pq_mP hm, i1, j1, i2, j2]
  simp only [pb_b1]
  cases hv : pq_in v 0 (nI (pn_P (pa_net S)) - 1) with
  | false => exact bad
  | true =>
    simp only [pb_ibT]
    cases hw : pq_in w 0 (nI 30) with
    | false => exact bad
    | true =>
      simp only [pb_ibT]
      cases hx : pq_in x (nI 1) (nI 999999) with
      | false => exact bad
      | true =>
        simp only [pb_ibT]
        obtain ⟨s, hs, rfl⟩ := (pq_lt (by omega)).mp hv
        obtain ⟨n, hn, rfl⟩ := (pq_le (by omega)).mp hw
        obtain ⟨seed, hs1, hs2, rfl⟩ := px_of (by omega) (by omega) hx
        obtain ⟨τ, t1, t2, t3⟩ := ry_now h
        obtain ⟨ν, u1, u2, u3⟩ := ry_mnow hm hN
        rw [t1, pb_b2, pb_gdD _ (by decide), u1, pb_b1, nL_32 (by omega)]
        have Zok := rz_Zok hN s (seed := seed) (by omega)
        have keyA := pb_cnti (b := fun x : Int32 × Int64 × Int32 × cl_S => cl_X0_drawn_L51 19 x.2.2.2 (nI s) (nI n) 37 x.1 x.2.1 x.2.2.1) (fun i τ => ((rz_Z (pa_net S) s seed i).1, nL (rz_Z (pa_net S) s seed i).2.1, nI i, τ)) (fun i τ => pc_R τ S ∧ pc_N τ 37 (rz_Z (pa_net S) s seed i).2.2) n (fun z => z.1 = (rz_Z (pa_net S) s seed n).1 ∧ pc_R z.2 S) (fun i hi τ hτ => ?_) (fun τ hτ => ?_) dx_fu (by unfold dx_fu; omega) τ ⟨t2, t3⟩
        · obtain ⟨z, h1, h2, h3⟩ := keyA
          have keyB := pb_cnti (b := fun x : Int64 × Int32 × Int32 × mo_S => mo_drawn_L54 x.2.2.2 (nI s) (nI n) x.1 x.2.1 x.2.2.1) (fun i τ => (nL (rz_Z (pa_net S) s seed i).2.1, (rz_Z (pa_net S) s seed i).1, nI i, τ)) (fun i τ => pm_R τ S ∧ pn_m (τ.2 7) (rz_Z (pa_net S) s seed i).2.2) n (fun z => z.1 = (rz_Z (pa_net S) s seed n).1 ∧ pm_R z.2 S) (fun i hi τ hτ => ?_) (fun τ hτ => ?_) dx_fu (by unfold dx_fu; omega) ν ⟨u2, u3⟩
          · obtain ⟨y, j1, j2, j3⟩ := keyB
            rw [nI_0] at h1 j1
            exact ⟨z.1, z.2, y.2, h1, by rw [h2, ← j2]; exact j1, h3, j3⟩
          · obtain ⟨z1, z2, z3⟩ := Zok i
            obtain ⟨ν', q1, q2, q3⟩ := rz_mstep hτ.1 hτ.2 z1 (s := s) (n := n) (i := i) (by rw [z2]; exact hs) hi hn z3 (rz_Z (pa_net S) s seed i).1
            exact ⟨ν', ⟨q1, q2⟩, q3⟩
          · refine ⟨(_, τ), ?_, rfl, hτ.1⟩
            show mo_drawn_L54 τ (nI s) (nI n) _ _ (nI n) = _
            unfold mo_drawn_L54
            rw [if_pos ((pb_le (by omega) (by omega)).mpr (Nat.le_refl _))]
            rfl
        · obtain ⟨z1, z2, z3⟩ := Zok i
          obtain ⟨τ', q1, q2, q3⟩ := rz_cstep hτ.1 hτ.2 z1 (s := s) (n := n) (i := i) (by rw [z2]; exact hs) hi hn z3 (rz_Z (pa_net S) s seed i).1
          exact ⟨τ', ⟨q1, q2⟩, q3⟩
        · refine ⟨(_, τ), ?_, rfl, hτ.1⟩
          show cl_X0_drawn_L51 19 τ (nI s) (nI n) 37 _ _ (nI n) = _
          unfold cl_X0_drawn_L51
          rw [if_pos ((pb_le (by omega) (by omega)).mpr (Nat.le_refl _))]
          rfl
end RZ
