/-! chains: plain mathematics. A half k = 2c + which of a contact: who is told, who tells, its day -/
def ca_w (N : pn_N) (k : Nat) : Nat := if k % 2 = 0 then pn_a N (k / 2) else pn_b N (k / 2)
def ca_g (N : pn_N) (k : Nat) : Nat := if k % 2 = 0 then pn_b N (k / 2) else pn_a N (k / 2)
def ca_d (N : pn_N) (k : Nat) : Nat := pn_d N (k / 2)
/-- whether one that caught it on day e may give it by half k -/
def ca_m (N : pn_N) (q e k : Nat) : Bool := decide (ca_g N k = q ∧ pn_kd N (ca_w N k) ≠ 5) && pn_mp N q e (ca_d N k)
def ca_its (N : pn_N) (L : Nat → Nat) (q e k : Nat) : Nat := if ca_m N q e k = true then 1 + L k else 1000
def ca_fg (N : pn_N) (L : Nat → Nat) (q e : Nat) : Nat → Nat → Nat := fun k b => if ca_its N L q e k < b then ca_its N L q e k else b
def ca_b0 (p q : Nat) : Nat := if q = p then 0 else 1000
/-- the fewest contacts more, by a table of what is left behind each half -/
def ca_f (N : pn_N) (L : Nat → Nat) (p q e : Nat) : Nat := pb_fold (ca_fg N L q e) (ca_b0 p q) (2 * pn_C N)
/-- a table that is right behind day D -/
def ca_T (N : pn_N) (L : Nat → Nat) (p D : Nat) : Prop := ∀ k, k < 2 * pn_C N → D < ca_d N k → L k = ca_f N L p (ca_w N k) (ca_d N k)
/-- the half by which one gives it at a contact -/
def ca_h (N : pn_N) (q c : Nat) : Nat := if pn_a N c = q then 2 * c + 1 else 2 * c
/-- where a chain of halves stands -/
def ca_q (N : pn_N) (s : Nat) (K : Nat → Nat) : Nat → Nat
  | 0 => s
  | t + 1 => ca_w N (K t)
def ca_e (N : pn_N) (D : Nat) (K : Nat → Nat) : Nat → Nat
  | 0 => D
  | t + 1 => ca_d N (K t)
/-- the chain: at each place the least half that leaves one less -/
def ca_ok (N : pn_N) (L : Nat → Nat) (s D n : Nat) (K : Nat → Nat) : Prop := ∀ t, t < n → K t < 2 * pn_C N ∧ ca_m N (ca_q N s K t) (ca_e N D K t) (K t) = true ∧ L (K t) = n - 1 - t ∧ ∀ k, k < K t → ¬ (ca_m N (ca_q N s K t) (ca_e N D K t) k = true ∧ L k = n - 1 - t)
theorem ca_fold (N : pn_N) (L : Nat → Nat) (q e b : Nat) : ∀ n, pb_fold (ca_fg N L q e) b n ≤ b ∧ (∀ k, k < n → pb_fold (ca_fg N L q e) b n ≤ ca_its N L q e k) ∧ (pb_fold (ca_fg N L q e) b n = b ∨ ∃ k, k < n ∧ pb_fold (ca_fg N L q e) b n = ca_its N L q e k) := by
  intro n
  induction n with
  | zero => exact ⟨Nat.le_refl _, fun k hk => absurd hk (Nat.not_lt_zero k), Or.inl rfl⟩
  | succ n ih =>
    obtain ⟨h1, h2, h3⟩ := ih
    have e1 : pb_fold (ca_fg N L q e) b (n + 1) = if ca_its N L q e n < pb_fold (ca_fg N L q e) b n then ca_its N L q e n else pb_fold (ca_fg N L q e) b n := rfl
    rw [e1]
    by_cases hlt : ca_its N L q e n < pb_fold (ca_fg N L q e) b n
    · rw [if_pos hlt]
      refine ⟨by omega, fun k hk => ?_, Or.inr ⟨n, by omega, rfl⟩⟩
      by_cases hkn : k = n
      · rw [hkn]
        exact Nat.le_refl _
      · have := h2 k (by omega)
        omega
    · rw [if_neg hlt]
      refine ⟨h1, fun k hk => ?_, ?_⟩
      · by_cases hkn : k = n
        · rw [hkn]
          omega
        · exact h2 k (by omega)
      · rcases h3 with h | ⟨k, hk, h⟩
        · exact Or.inl h
        · exact Or.inr ⟨k, by omega, h⟩
section CA
variable {N : pn_N} {L : Nat → Nat} {p q e k D : Nat}
theorem ca_f_le : ca_f N L p q e ≤ 1000 := by
  have h := (ca_fold N L q e (ca_b0 p q) (2 * pn_C N)).1
  have h2 : ca_b0 p q ≤ 1000 := by unfold ca_b0; split <;> omega
  unfold ca_f
  omega
theorem ca_f_0 : ca_f N L p p e = 0 := by
  have h := (ca_fold N L p e (ca_b0 p p) (2 * pn_C N)).1
  have h2 : ca_b0 p p = 0 := if_pos rfl
  unfold ca_f
  omega
theorem ca_f_s (hk : k < 2 * pn_C N) (hm : ca_m N q e k = true) : ca_f N L p q e ≤ 1 + L k := by
  have h := (ca_fold N L q e (ca_b0 p q) (2 * pn_C N)).2.1 k hk
  unfold ca_its at h
  rw [if_pos hm] at h
  exact h
theorem ca_f_x (hq : q ≠ p) (h : ca_f N L p q e < 1000) : ∃ k, k < 2 * pn_C N ∧ ca_m N q e k = true ∧ ca_f N L p q e = 1 + L k := by
  have h2 : ca_b0 p q = 1000 := if_neg hq
  rcases (ca_fold N L q e (ca_b0 p q) (2 * pn_C N)).2.2 with h3 | ⟨k, hk, h3⟩
  · unfold ca_f at h
    omega
  · have h4 : ca_f N L p q e = ca_its N L q e k := h3
    unfold ca_its at h4
    by_cases hm : ca_m N q e k = true
    · rw [if_pos hm] at h4
      exact ⟨k, hk, hm, h4⟩
    · rw [if_neg hm] at h4
      omega
theorem ca_f_z (h : ca_f N L p q e = 0) : q = p := by
  refine Classical.byContradiction fun hq => ?_
  obtain ⟨k, -, -, h3⟩ := ca_f_x (L := L) (e := e) (N := N) hq (by omega)
  omega
theorem ca_rg (hN : pn_ok N) (hk : k < 2 * pn_C N) : ca_w N k < pn_P N ∧ ca_g N k < pn_P N ∧ ca_d N k ≤ 30 ∧ ca_w N k ≠ ca_g N k := by
  obtain ⟨c1, c2, c3, c4⟩ := hN.2.2.2.2 (k / 2) (by omega)
  unfold ca_w ca_g ca_d
  split <;> omega
theorem ca_lt (hN : pn_ok N) (hk : k < 2 * pn_C N) (hm : ca_m N q e k = true) : e < ca_d N k ∧ ca_g N k = q := by
  obtain ⟨-, r2, -⟩ := ca_rg hN hk
  unfold ca_m at hm
  rw [Bool.and_eq_true, decide_eq_true_iff] at hm
  obtain ⟨⟨h1, -⟩, h2⟩ := hm
  unfold pn_mp at h2
  rw [decide_eq_true_iff] at h2
  obtain ⟨-, g2, -⟩ := pn_kdb hN (p := q) (by omega)
  have h3 : 1 ≤ pn_lw N q := by unfold pn_lw; split <;> omega
  exact ⟨by omega, h1⟩
theorem ca_h_2 (c : Nat) : ca_h N q c / 2 = c := by
  unfold ca_h
  split <;> omega
theorem ca_h_d (c : Nat) : ca_d N (ca_h N q c) = pn_d N c := by
  unfold ca_d
  rw [ca_h_2]
theorem ca_h_lt {c : Nat} (hc : c < pn_C N) : ca_h N q c < 2 * pn_C N := by
  unfold ca_h
  split <;> omega
theorem ca_h_u (hN : pn_ok N) (hk : k < 2 * pn_C N) (hm : ca_m N q e k = true) : ca_h N q (k / 2) = k := by
  have h1 := (ca_lt hN hk hm).2
  obtain ⟨c1, c2, c3, c4⟩ := hN.2.2.2.2 (k / 2) (by omega)
  unfold ca_g at h1
  unfold ca_h
  by_cases h0 : k % 2 = 0
  · rw [if_pos h0] at h1
    rw [if_neg (by omega)]
    omega
  · rw [if_neg h0] at h1
    rw [if_pos h1]
    omega
/-- a count of the contacts behind a day -/
def ca_cn (N : pn_N) (e : Nat) : Nat → Nat
  | 0 => 0
  | c + 1 => ca_cn N e c + (if e < pn_d N c then 1 else 0)
theorem ca_cn_s (e c : Nat) : ca_cn N e (c + 1) = ca_cn N e c + (if e < pn_d N c then 1 else 0) := rfl
theorem ca_cn_le (e : Nat) : ∀ n, ca_cn N e n ≤ n := by
  intro n
  induction n with
  | zero => exact Nat.le_refl _
  | succ n ih =>
    rw [ca_cn_s]
    split <;> omega
theorem ca_cn_mo {e e' : Nat} (h : e ≤ e') : ∀ n, ca_cn N e' n ≤ ca_cn N e n := by
  intro n
  induction n with
  | zero => exact Nat.le_refl _
  | succ n ih =>
    rw [ca_cn_s, ca_cn_s]
    by_cases h1 : e' < pn_d N n
    · rw [if_pos h1, if_pos (by omega)]
      omega
    · rw [if_neg h1]
      omega
theorem ca_cn_st {e e' c : Nat} (h : e < pn_d N c) (h' : pn_d N c ≤ e') : ∀ n, c < n → ca_cn N e' n + 1 ≤ ca_cn N e n := by
  intro n
  induction n with
  | zero => intro hc; omega
  | succ n ih =>
    intro hc
    rw [ca_cn_s, ca_cn_s]
    by_cases hcn : c = n
    · rw [hcn] at h h'
      have := ca_cn_mo (N := N) (e := e) (e' := e') (by omega) n
      rw [if_pos h, if_neg (by omega)]
      omega
    · have := ih (by omega)
      by_cases h1 : e' < pn_d N n
      · rw [if_pos h1, if_pos (by omega)]
        omega
      · rw [if_neg h1]
        omega
theorem ca_bd (hN : pn_ok N) (hT : ca_T N L p D) : ∀ r q e, D ≤ e → ca_f N L p q e = r → r < 1000 → r ≤ ca_cn N e (pn_C N) := by
  intro r
  induction r with
  | zero => intro _ _ _ _ _; exact Nat.zero_le _
  | succ r ih =>
    intro q e he hf hr
    have hq : q ≠ p := by
      intro h
      rw [h, ca_f_0] at hf
      omega
    obtain ⟨k, hk, hm, hv⟩ := ca_f_x (L := L) (e := e) (N := N) hq (by omega)
    obtain ⟨hlt, -⟩ := ca_lt hN hk hm
    have hL := hT k hk (by omega)
    have h1 := ih (ca_w N k) (ca_d N k) (by omega) (by omega) (by omega)
    have h2 := ca_cn_st (N := N) (e := e) (e' := ca_d N k) (c := k / 2) hlt (Nat.le_refl _) (pn_C N) (by omega)
    omega
theorem ca_10 (hN : pn_ok N) (hT : ca_T N L p D) {q e : Nat} (he : D ≤ e) (h : ca_f N L p q e < 1000) : ca_f N L p q e ≤ 10 := by
  have h1 := ca_bd hN hT _ q e he rfl h
  have h2 := ca_cn_le (N := N) e (pn_C N)
  have h3 := hN.2.1
  omega
/-- there is one chain alone -/
theorem ca_u {s n : Nat} {K K' : Nat → Nat} (h : ca_ok N L s D n K) (h' : ca_ok N L s D n K') : ∀ t, t < n → K t = K' t := by
  intro t
  induction t using Nat.strongRecOn with
  | ind t ih =>
    intro ht
    have eq : ca_q N s K t = ca_q N s K' t ∧ ca_e N D K t = ca_e N D K' t := by
      cases t with
      | zero => exact ⟨rfl, rfl⟩
      | succ t =>
        have := ih t (by omega) (by omega)
        refine ⟨?_, ?_⟩
        · show ca_w N (K t) = ca_w N (K' t)
          rw [this]
        · show ca_d N (K t) = ca_d N (K' t)
          rw [this]
    obtain ⟨a1, a2, a3, a4⟩ := h t ht
    obtain ⟨b1, b2, b3, b4⟩ := h' t ht
    rw [eq.1, eq.2] at a2 a4
    have h1 : ¬ K t < K' t := fun hlt => b4 (K t) hlt ⟨a2, a3⟩
    have h2 : ¬ K' t < K t := fun hlt => a4 (K' t) hlt ⟨b2, b3⟩
    omega
end CA
/-- so many into so many -/
theorem ca_ph : ∀ (n m : Nat) (f : Nat → Nat), (∀ i, i < m → f i < n) → (∀ i j, i < m → j < m → f i = f j → i = j) → m ≤ n := by
  intro n
  induction n with
  | zero =>
    intro m f h1 _
    by_cases hm : m = 0
    · omega
    · have := h1 0 (by omega)
      omega
  | succ n ih =>
    intro m f h1 h2
    by_cases hex : ∃ i, i < m ∧ f i = n
    · obtain ⟨i0, hi0, hf0⟩ := hex
      have h3 := ih (m - 1) (fun i => if i < i0 then f i else f (i + 1)) (fun i hi => ?_) (fun i j hi hj hij => ?_)
      · omega
      · show (if i < i0 then f i else f (i + 1)) < n
        split
        · rename_i h
          have a := h1 i (by omega)
          have b : f i ≠ n := fun h' => by have := h2 i i0 (by omega) hi0 (by omega); omega
          omega
        · rename_i h
          have a := h1 (i + 1) (by omega)
          have b : f (i + 1) ≠ n := fun h' => by have := h2 (i + 1) i0 (by omega) hi0 (by omega); omega
          omega
      · replace hij : (if i < i0 then f i else f (i + 1)) = (if j < i0 then f j else f (j + 1)) := hij
        by_cases ha : i < i0
        · rw [if_pos ha] at hij
          by_cases hb : j < i0
          · rw [if_pos hb] at hij
            exact h2 i j (by omega) (by omega) hij
          · rw [if_neg hb] at hij
            have := h2 i (j + 1) (by omega) (by omega) hij
            omega
        · rw [if_neg ha] at hij
          by_cases hb : j < i0
          · rw [if_pos hb] at hij
            have := h2 (i + 1) j (by omega) (by omega) hij
            omega
          · rw [if_neg hb] at hij
            have := h2 (i + 1) (j + 1) (by omega) (by omega) hij
            omega
    · have h3 := ih m f (fun i hi => ?_) h2
      · omega
      · have a := h1 i hi
        have b : f i ≠ n := fun h' => hex ⟨i, hi, h'⟩
        omega
