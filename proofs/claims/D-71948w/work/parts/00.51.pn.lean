/-! a net as plain numbers: persons, contacts, low, high; kinds, ill days; contacts' two persons, their days -/
abbrev pn_N : Type := (Nat × Nat × Nat × Nat) × (Nat → Nat) × (Nat → Int32) × (Nat → Nat) × (Nat → Nat) × (Nat → Nat)
def pn_P (N : pn_N) : Nat := N.1.1
def pn_C (N : pn_N) : Nat := N.1.2.1
def pn_lo (N : pn_N) : Nat := N.1.2.2.1
def pn_hi (N : pn_N) : Nat := N.1.2.2.2
def pn_kd (N : pn_N) : Nat → Nat := N.2.1
def pn_il (N : pn_N) : Nat → Int32 := N.2.2.1
def pn_a (N : pn_N) : Nat → Nat := N.2.2.2.1
def pn_b (N : pn_N) : Nat → Nat := N.2.2.2.2.1
def pn_d (N : pn_N) : Nat → Nat := N.2.2.2.2.2
def pn_okI (v : Int32) : Prop := v = -1 ∨ ∃ d, d ≤ 30 ∧ v = nI d
def pn_ok (N : pn_N) : Prop := pn_P N ≤ 9 ∧ pn_C N ≤ 10 ∧ (0 < pn_P N → 1 ≤ pn_lo N ∧ pn_lo N ≤ 9 ∧ pn_lo N ≤ pn_hi N ∧ pn_hi N ≤ 20) ∧ (∀ p, p < pn_P N → 1 ≤ pn_kd N p ∧ pn_kd N p ≤ 5 ∧ pn_okI (pn_il N p)) ∧ (∀ c, c < pn_C N → pn_a N c < pn_P N ∧ pn_b N c < pn_P N ∧ pn_a N c ≠ pn_b N c ∧ pn_d N c ≤ 30)
/-- a window's two ends; whether one that caught it on day e passes it on on day d -/
def pn_lw (N : pn_N) (p : Nat) : Nat := if pn_kd N p = 2 then pn_lo N + 1 else pn_lo N
def pn_hg (N : pn_N) (p : Nat) : Nat := if pn_kd N p = 2 then pn_hi N + 1 else if pn_kd N p = 3 ∧ pn_lo N < pn_hi N then pn_hi N - 1 else pn_hi N
def pn_mp (N : pn_N) (p e d : Nat) : Bool := decide (pn_kd N p < 4 ∧ pn_lw N p + e ≤ d ∧ d ≤ e + pn_hg N p)
def pn_px (N : pn_N) (D : Nat → Int32) (g : Nat) (d : Nat) : Bool := (List.range d).any (fun e => pb_bt (D g) e && pn_mp N g e d)
abbrev pn_W : Type := (Nat → Int32) × (Nat → Int32)
def pn_gv (N : pn_N) (W : pn_W) (f t d : Nat) : pn_W := if pn_kd N t ≠ 5 ∧ pn_px N W.1 f d = true then (upd W.1 t (W.1 t ||| ((1 : Int32) <<< (nI d &&& 31))), upd W.2 t (W.2 t ||| ((1 : Int32) <<< (nI f &&& 31)))) else W
def pn_st (N : pn_N) (but : Int32) (d c : Nat) (W : pn_W) : pn_W := if pn_d N c = d ∧ pb_bt but c = false then pn_gv N (pn_gv N W (pn_a N c) (pn_b N c) d) (pn_b N c) (pn_a N c) d else W
def pn_fc (N : pn_N) (but : Int32) (d : Nat) (W : pn_W) : Nat → pn_W
  | 0 => W
  | c + 1 => pn_st N but d c (pn_fc N but d W c)
def pn_fd (N : pn_N) (but : Int32) (W : pn_W) : Nat → pn_W
  | 0 => W
  | d + 1 => pn_fc N but d (pn_fd N but W d) (pn_C N)
/-- the first day alone, in the arrays' nine places (o: what lies beyond them) -/
def pn_w0 (o : pn_W) (s d : Nat) : Nat → pn_W
  | 0 => o
  | p + 1 => (upd (pn_w0 o s d p).1 p (if p = s then (1 : Int32) <<< (nI d &&& 31) else 0), upd (pn_w0 o s d p).2 p 0)
def pn_wo (N : pn_N) (o : pn_W) (s d : Nat) (but : Int32) : pn_W := pn_fd N but (pn_w0 o s d 9) 31
def pn_wk (N : pn_N) (s d : Nat) (but : Int32) : Nat → Int32 := (pn_wo N (fun _ => 0, fun _ => 0) s d but).1
def pn_wg (N : pn_N) (s d : Nat) (but : Int32) : Nat → Int32 := (pn_wo N (fun _ => 0, fun _ => 0) s d but).2
def pn_e9 (W V : pn_W) : Prop := ∀ p, p < 9 → W.1 p = V.1 p ∧ W.2 p = V.2 p
theorem pn_w0_at (o : pn_W) (s d : Nat) : ∀ n p, p < n → (pn_w0 o s d n).1 p = (if p = s then (1 : Int32) <<< (nI d &&& 31) else 0) ∧ (pn_w0 o s d n).2 p = 0 := by
  intro n
  induction n with
  | zero => intro p h; omega
  | succ n ih =>
    intro p h
    show upd _ n _ p = _ ∧ upd _ n _ p = _
    by_cases hp : p = n
    · subst hp; simp [upd]
    · simp only [upd, hp, if_false]
      exact ih p (by omega)
theorem pn_e9_gv {N : pn_N} {W V : pn_W} (h : pn_e9 W V) {f t d : Nat} (hf : f < 9) (ht : t < 9) : pn_e9 (pn_gv N W f t d) (pn_gv N V f t d) := by
  have e1 : pn_px N W.1 f d = pn_px N V.1 f d := by
    unfold pn_px
    rw [(h f hf).1]
  unfold pn_gv
  rw [e1]
  split
  · intro p hp
    show upd _ t _ p = upd _ t _ p ∧ upd _ t _ p = upd _ t _ p
    unfold upd
    rw [(h t ht).1, (h t ht).2]
    split
    · exact ⟨rfl, rfl⟩
    · exact h p hp
  · exact h
theorem pn_e9_fc {N : pn_N} (hN : pn_ok N) (but : Int32) (d : Nat) {W V : pn_W} (h : pn_e9 W V) : ∀ c, c ≤ pn_C N → pn_e9 (pn_fc N but d W c) (pn_fc N but d V c) := by
  intro c
  induction c with
  | zero => intro _; exact h
  | succ c ih =>
    intro hc
    have h1 := ih (by omega)
    obtain ⟨c1, c2, -⟩ := hN.2.2.2.2 c (by omega)
    have hP := hN.1
    unfold pn_fc pn_st
    split
    · exact pn_e9_gv (pn_e9_gv h1 (by omega) (by omega)) (by omega) (by omega)
    · exact h1
theorem pn_e9_fd {N : pn_N} (hN : pn_ok N) (but : Int32) {W V : pn_W} (h : pn_e9 W V) : ∀ n, pn_e9 (pn_fd N but W n) (pn_fd N but V n) := by
  intro n
  induction n with
  | zero => exact h
  | succ n ih => exact pn_e9_fc hN but n ih _ (Nat.le_refl _)
theorem pn_wo_e9 {N : pn_N} (hN : pn_ok N) (o : pn_W) (s d : Nat) (but : Int32) {p : Nat} (hp : p < 9) : (pn_wo N o s d but).1 p = pn_wk N s d but p ∧ (pn_wo N o s d but).2 p = pn_wg N s d but p := by
  refine pn_e9_fd hN but (fun p hp => ?_) 31 p hp
  have h1 := pn_w0_at o s d 9 p hp
  have h2 := pn_w0_at (fun _ => 0, fun _ => 0) s d 9 p hp
  exact ⟨h1.1.trans h2.1.symm, h1.2.trans h2.2.symm⟩
/-- no bit below d0 -/
def pn_hi0 (W : pn_W) (d0 : Nat) : Prop := ∀ p e, p < 9 → e < d0 → pb_bt (W.1 p) e = false
theorem pn_fc_id {N : pn_N} (hN : pn_ok N) {W : pn_W} {d0 d : Nat} (h : pn_hi0 W d0) (hd : d ≤ d0) (but : Int32) : ∀ c, c ≤ pn_C N → pn_fc N but d W c = W := by
  have e1 : ∀ f t, f < 9 → pn_gv N W f t d = W := by
    intro f t hf
    have e2 : pn_px N W.1 f d = false := by
      unfold pn_px
      rw [List.any_eq_false]
      intro e he
      have he' : e < d := List.mem_range.mp he
      rw [h f e hf (by omega)]
      simp
    unfold pn_gv
    rw [e2]
    simp
  intro c
  induction c with
  | zero => intro _; rfl
  | succ c ih =>
    intro hc
    obtain ⟨c1, c2, -⟩ := hN.2.2.2.2 c (by omega)
    have hP := hN.1
    unfold pn_fc
    rw [ih (by omega)]
    unfold pn_st
    split
    · rw [e1 _ _ (by omega), e1 _ _ (by omega)]
    · rfl
theorem pn_w0_hi (o : pn_W) (s : Nat) {d : Nat} (hd : d < 31) : pn_hi0 (pn_w0 o s d 9) d := by
  intro p e hp he
  rw [(pn_w0_at o s d 9 p hp).1]
  split
  · rw [pb_one' (by omega)]
    simp
    omega
  · exact pb_bt0 e
/-- up to its first day nothing comes of it -/
theorem pn_fd_id {N : pn_N} (hN : pn_ok N) (o : pn_W) (s : Nat) {d : Nat} (hd : d < 31) (but : Int32) : ∀ n, n ≤ d + 1 → pn_fd N but (pn_w0 o s d 9) n = pn_w0 o s d 9 := by
  intro n
  induction n with
  | zero => intro _; rfl
  | succ n ih =>
    intro h
    unfold pn_fd
    rw [ih (by omega), pn_fc_id hN (pn_w0_hi o s hd) (by omega) but _ (Nat.le_refl _)]
/-! the Model's side -/
def pn_m (w : Nat → Int32) (N : pn_N) : Prop := w 0 = nI (pn_P N) ∧ w 1 = nI (pn_C N) ∧ w 2 = nI (pn_lo N) ∧ w 3 = nI (pn_hi N) ∧ (∀ p, p < pn_P N → w (4 + 2 * p) = nI (pn_kd N p) ∧ w (5 + 2 * p) = pn_il N p) ∧ (∀ c, c < pn_C N → w (22 + 3 * c) = nI (pn_a N c) ∧ w (23 + 3 * c) = nI (pn_b N c) ∧ w (24 + 3 * c) = nI (pn_d N c))
theorem pl_1 : (1 : Int32) = nI 1 := rfl
theorem pl_2 : (2 : Int32) = nI 2 := rfl
theorem pl_3 : (3 : Int32) = nI 3 := rfl
theorem pl_4 : (4 : Int32) = nI 4 := rfl
theorem pl_5 : (5 : Int32) = nI 5 := rfl
theorem pl_9 : (9 : Int32) = nI 9 := rfl
theorem pl_10 : (10 : Int32) = nI 10 := rfl
theorem pl_22 : (22 : Int32) = nI 22 := rfl
theorem pl_31 : (31 : Int32) = nI 31 := rfl
theorem pn_i4 (p : Nat) : (4 : Int32) + (2 : Int32) * nI p = nI (4 + 2 * p) := by rw [pl_4, pl_2, pb_mul, pb_add]
theorem pn_i22 (c : Nat) : (22 : Int32) + (3 : Int32) * nI c = nI (22 + 3 * c) := by rw [pl_22, pl_3, pb_mul, pb_add]
theorem pn_i23 (c : Nat) : nI (22 + 3 * c) + (1 : Int32) = nI (23 + 3 * c) := by rw [pl_1, pb_add]; congr 1; omega
theorem pn_i24 (c : Nat) : nI (22 + 3 * c) + (2 : Int32) = nI (24 + 3 * c) := by rw [pl_2, pb_add]; congr 1; omega
theorem pn_gdi {α : Type} {j n : Nat} (k : Option α) (h : j < n) (hn : j < 2 ^ 31) : dx_gd (dx_inb (nI j) n) k = k := by
  rw [pb_inb hn, decide_eq_true h]
  rfl
theorem pn_m_has {x : Int32} {k : Nat} (hk : k < 32) : mo_has x (nI k) = some (pb_bt x k) := by
  unfold mo_has
  by_cases h : pb_bt x k = true
  · rw [if_pos ((pb_has x hk).mpr h), h]
  · rw [if_neg (fun h2 => h ((pb_has x hk).mp h2))]
    simp only [Bool.not_eq_true] at h
    rw [h]
section PNM
variable {k0 : Nat} {μ : mo_S} {N : pn_N}
theorem pn_kdb (hN : pn_ok N) {p : Nat} (hp : p < pn_P N) : pn_P N ≤ 9 ∧ 1 ≤ pn_lo N ∧ pn_lo N ≤ 9 ∧ pn_lo N ≤ pn_hi N ∧ pn_hi N ≤ 20 ∧ 1 ≤ pn_kd N p ∧ pn_kd N p ≤ 5 := by
  obtain ⟨h1, h2, h3, h4, h5⟩ := hN
  have h6 := h3 (by omega)
  have h7 := h4 p hp
  exact ⟨h1, h6.1, h6.2.1, h6.2.2.1, h6.2.2.2, h7.1, h7.2.1⟩
theorem pn_m_wo (hk : mo_len k0 = 52) (hm : pn_m (μ.2 k0) N) (hN : pn_ok N) {p : Nat} (hp : p < pn_P N) : mo_windowOf k0 μ (nI p) 0 = some (if pn_kd N p < 4 then nI (pn_lw N p) else -1000000) ∧ mo_windowOf k0 μ (nI p) 1 = some (if pn_kd N p < 4 then nI (pn_hg N p) else -1000000) := by
  obtain ⟨g1, g2, g3, g4, g5, g6, g7⟩ := pn_kdb hN hp
  obtain ⟨m0, m1, m2, m3, m4, m5⟩ := hm
  have mk := (m4 p hp).1
  have e2 : (2 : Int32).toNatClampNeg = 2 := by decide
  have e3 : (3 : Int32).toNatClampNeg = 3 := by decide
  have i2 : dx_inb (2 : Int32) 52 = true := by decide
  have i3 : dx_inb (3 : Int32) 52 = true := by decide
  unfold mo_windowOf mo_windowOf_J70
  rw [pn_i4, hk, pn_gdi _ (by omega) (by omega), pn_gdi _ (by omega) (by omega), nI_clamp (by omega), mk, e2, e3, m2, m3]
  rw [dx_gd_t _ i2, dx_gd_t _ i3, dx_gd_t _ i3]
  unfold pn_lw pn_hg
  by_cases h4 : pn_kd N p < 4
  · have h4' : nI (pn_kd N p) < (4 : Int32) := (pb_lt (b := 4) (by omega) (by omega)).mpr h4
    simp only [h4, h4', if_true]
    by_cases h2 : pn_kd N p = 2
    · have h2' : nI (pn_kd N p) = (2 : Int32) := by rw [h2]; rfl
      simp only [h2, if_true]
      refine ⟨?_, ?_⟩
      · show some (nI (pn_lo N) + nI 1) = _
        rw [pb_add]
      · show some (nI (pn_hi N) + nI 1) = _
        rw [pb_add]
    · have h2' : ¬ nI (pn_kd N p) = (2 : Int32) := fun h => h2 ((pb_inj (b := 2) (by omega) (by omega)).mp h)
      simp only [h2, h2', if_false]
      refine ⟨?_, ?_⟩
      · show some (nI (pn_lo N) + nI 0) = _
        rw [pb_add, Nat.add_zero]
      · rw [if_neg (by decide)]
        by_cases h3 : pn_kd N p = 3
        · have h3' : nI (pn_kd N p) = (3 : Int32) := by rw [h3]; rfl
          rw [if_pos h3', dx_gd_t _ i2]
          by_cases h5 : pn_lo N < pn_hi N
          · rw [if_neg (fun h => absurd ((pb_le (by omega) (by omega)).mp h) (by omega)), if_pos ⟨h3, h5⟩]
            show some (nI (pn_hi N) - nI 1) = _
            rw [pb_sub (by omega)]
          · rw [if_pos ((pb_le (by omega) (by omega)).mpr (by omega)), if_neg (fun h => h5 h.2)]
            exact dx_gd_t _ i3
        · have h3' : ¬ nI (pn_kd N p) = (3 : Int32) := fun h => h3 ((pb_inj (b := 3) (by omega) (by omega)).mp h)
          rw [if_neg h3', if_neg (fun h => h3 h.1)]
          exact dx_gd_t _ i3
  · have h4' : ¬ nI (pn_kd N p) < (4 : Int32) := fun h => h4 ((pb_lt (b := 4) (by omega) (by omega)).mp h)
    simp only [h4, h4', if_false]
    exact ⟨trivial, trivial⟩
theorem pn_m_mp (hk : mo_len k0 = 52) (hm : pn_m (μ.2 k0) N) (hN : pn_ok N) {p e d : Nat} (hp : p < pn_P N) (he : e ≤ d) (hd : d ≤ 31) : mo_mayPass k0 μ (nI p) (nI e) (nI d) = some (pn_mp N p e d) := by
  obtain ⟨g1, g2, g3, g4, g5, g6, g7⟩ := pn_kdb hN hp
  obtain ⟨w0, w1⟩ := pn_m_wo hk hm hN hp
  have b1 : pn_lw N p ≤ 10 := by unfold pn_lw; split <;> omega
  have b2 : pn_hg N p ≤ 21 := by unfold pn_hg; split <;> (try split) <;> omega
  unfold mo_mayPass
  rw [dx_b1_eq _ w0]
  unfold pn_mp
  by_cases h4 : pn_kd N p < 4
  · simp only [h4, if_true, true_and]
    have hne : ¬ nI (pn_lw N p) = (-1000000 : Int32) := by
      intro h
      have := congrArg Int32.toInt h
      rw [nI_toInt (by omega)] at this
      have h2 : (-1000000 : Int32).toInt = -1000000 := by decide
      omega
    rw [if_neg hne, pb_sub he, dx_b1_eq _ w1]
    simp only [h4, if_true]
    by_cases h5 : pn_lw N p + e ≤ d
    · rw [if_neg (fun h => absurd ((pb_lt (by omega) (by omega)).mp h) (by omega))]
      by_cases h6 : d ≤ e + pn_hg N p
      · rw [if_neg (fun h => absurd ((pb_lt (by omega) (by omega)).mp h) (by omega))]
        simp [h5, h6]
      · rw [if_pos ((pb_lt (by omega) (by omega)).mpr (by omega))]
        simp [h6]
    · rw [if_pos ((pb_lt (by omega) (by omega)).mpr (by omega))]
      simp [h5]
  · simp only [h4, if_false, false_and]
    simp
theorem pn_m_px (hk : mo_len k0 = 52) (hm : pn_m (μ.2 k0) N) (hN : pn_ok N) {g d : Nat} (hg : g < pn_P N) (hd : d ≤ 31) : mo_passes k0 μ (nI g) (nI d) = some (pn_px N (μ.2 11) g d) := by
  obtain ⟨g1, -⟩ := pn_kdb hN hg
  let f : Nat → Bool := fun e => pb_bt (μ.2 11 g) e && pn_mp N g e d
  have hst : ∀ i, (List.range (i + 1)).any f = ((List.range i).any f || f i) := by
    intro i
    rw [List.range_succ, List.any_append]
    simp
  unfold mo_passes
  refine pb_lp (b := fun x : Bool × Int32 => mo_passes_L6 k0 μ (nI g) (nI d) x.1 x.2) d (fun i => ((List.range i).any f, nI i)) (fun i hi => ?_) ?_ (by omega)
  · show mo_passes_L6 k0 μ (nI g) (nI d) ((List.range i).any f) (nI i) = some (.inl ((List.range (i + 1)).any f, nI (i + 1)))
    unfold mo_passes_L6
    rw [if_neg (fun h => absurd ((pb_le (by omega) (by omega)).mp h) (by omega)), pn_gdi _ (by omega) (by omega), nI_clamp (by omega), pn_m_has (by omega), hst]
    have e1 : nI i + (1 : Int32) = nI (i + 1) := (nI_succ i).symm
    rw [e1]
    cases h1 : (List.range i).any f with
    | true => simp [dx_ib]
    | false =>
      rw [dx_b1_eq _ rfl, dx_b1_eq _ (pn_m_mp hk hm hN hg (by omega) hd)]
      simp only [Bool.false_or]
      show dx_ib false _ (dx_ib (pb_bt (μ.2 11 g) i) (dx_ib (pn_mp N g i d) _ _) _) = _
      cases h2 : pb_bt (μ.2 11 g) i <;> cases h3 : pn_mp N g i d <;> simp [dx_ib, f, h2, h3]
  · show mo_passes_L6 k0 μ (nI g) (nI d) ((List.range d).any f) (nI d) = some (.inr (pn_px N (μ.2 11) g d))
    unfold mo_passes_L6
    rw [if_pos ((pb_le (by omega) (by omega)).mpr (Nat.le_refl d))]
    rfl
/-- what is told of the arrays that hold days and givers -/
def pn_mW (μ : mo_S) (W : pn_W) : mo_S := (μ.1, va_up (va_up μ.2 11 W.1) 12 W.2)
theorem pn_mW_k (W : pn_W) (hk : mo_len k0 = 52) : (pn_mW μ W).2 k0 = μ.2 k0 := by
  have h1 : k0 ≠ 11 := by intro h; rw [h] at hk; cases hk
  have h2 : k0 ≠ 12 := by intro h; rw [h] at hk; cases hk
  show va_up (va_up μ.2 11 W.1) 12 W.2 k0 = _
  rw [va_up_ne _ _ h2, va_up_ne _ _ h1]
theorem pn_mW_D (W : pn_W) : (pn_mW μ W).2 11 = W.1 := by
  show va_up (va_up μ.2 11 W.1) 12 W.2 11 = _
  rw [va_up_ne _ _ (by decide), va_up_self]
theorem pn_mW_G (W : pn_W) : (pn_mW μ W).2 12 = W.2 := by
  show va_up (va_up μ.2 11 W.1) 12 W.2 12 = _
  rw [va_up_self]
theorem pn_mA_D (W : pn_W) (i : Nat) (v : Int32) : mo_A (pn_mW μ W) 11 i v = pn_mW μ (upd W.1 i v, W.2) := by
  unfold mo_A
  rw [pn_mW_D]
  refine Prod.ext rfl ?_
  funext j
  show va_up (va_up (va_up μ.2 11 W.1) 12 W.2) 11 _ j = va_up (va_up μ.2 11 _) 12 W.2 j
  unfold va_up
  by_cases h1 : j = 11
  · subst h1; simp
  · by_cases h2 : j = 12
    · subst h2; simp
    · simp [h1, h2]
theorem pn_mA_G (W : pn_W) (i : Nat) (v : Int32) : mo_A (pn_mW μ W) 12 i v = pn_mW μ (W.1, upd W.2 i v) := by
  unfold mo_A
  rw [pn_mW_G]
  refine Prod.ext rfl ?_
  funext j
  show va_up (va_up (va_up μ.2 11 W.1) 12 W.2) 12 _ j = va_up (va_up μ.2 11 W.1) 12 _ j
  unfold va_up
  by_cases h2 : j = 12
  · subst h2; simp
  · simp [h2]
theorem pn_m_gv (hk : mo_len k0 = 52) (hm : pn_m (μ.2 k0) N) (hN : pn_ok N) (W : pn_W) {f t d : Nat} (hf : f < pn_P N) (ht : t < pn_P N) (hd : d ≤ 31) : mo_gives k0 (pn_mW μ W) (nI f) (nI t) (nI d) = some (pn_mW μ (pn_gv N W f t d)) := by
  obtain ⟨g1, g2, g3, g4, g5, g6, g7⟩ := pn_kdb hN ht
  have hm' : pn_m ((pn_mW μ W).2 k0) N := by rw [pn_mW_k W hk]; exact hm
  unfold mo_gives
  rw [pn_i4, hk, pn_gdi _ (by omega) (by omega), nI_clamp (by omega), nI_clamp (by omega), (hm'.2.2.2.2.1 t ht).1, dx_b1_eq _ (pn_m_px hk hm' hN hf hd), pn_mW_D]
  unfold pn_gv
  by_cases h5 : pn_kd N t = 5
  · rw [if_pos (by rw [h5]; rfl), if_neg (fun h => h.1 h5)]
  · have h5' : ¬ nI (pn_kd N t) = (5 : Int32) := fun h => h5 ((pb_inj (b := 5) (by omega) (by omega)).mp h)
    rw [if_neg h5']
    cases h6 : pn_px N W.1 f d with
    | true =>
      rw [if_pos ⟨h5, rfl⟩]
      show dx_gd (dx_inb (nI t) 9) _ = _
      rw [pn_gdi _ (by omega) (by omega), pn_gdi _ (by omega) (by omega), pn_gdi _ (by omega) (by omega), pn_gdi _ (by omega) (by omega), pn_mA_D, pn_mW_G, pn_mA_G]
    | false =>
      rw [if_neg (fun h => by cases h.2)]
      rfl
theorem pn_m_fc (hk : mo_len k0 = 52) (hm : pn_m (μ.2 k0) N) (hN : pn_ok N) (but : Int32) (W : pn_W) {d : Nat} (hd : d ≤ 31) : dx_lp (fun x : Int32 × mo_S => mo_walks_L59 k0 x.2 but (nI d) x.1) dx_fu ((0 : Int32), pn_mW μ W) = some (.inl (nI (d + 1), pn_mW μ (pn_fc N but d W (pn_C N)))) := by
  have hC := hN.2.1
  have e1 : (1 : Int32).toNatClampNeg = 1 := by decide
  have i1 : dx_inb (1 : Int32) 52 = true := by decide
  refine pb_lp (b := fun x : Int32 × mo_S => mo_walks_L59 k0 x.2 but (nI d) x.1) (pn_C N) (fun i => (nI i, pn_mW μ (pn_fc N but d W i))) (fun i hi => ?_) ?_ (by omega)
  · show mo_walks_L59 k0 (pn_mW μ (pn_fc N but d W i)) but (nI d) (nI i) = some (.inl (nI (i + 1), pn_mW μ (pn_fc N but d W (i + 1))))
    obtain ⟨c1, c2, c3, c4⟩ := hN.2.2.2.2 i hi
    have hP := hN.1
    obtain ⟨x1, x2, x3⟩ := hm.2.2.2.2.2 i hi
    have e9 : nI i + (1 : Int32) = nI (i + 1) := (nI_succ i).symm
    unfold mo_walks_L59
    rw [hk, dx_gd_t _ i1, e1, pn_mW_k _ hk, hm.2.1, if_neg (fun h => absurd ((pb_le (by omega) (by omega)).mp h) (by omega)), pn_i22, pn_i23, pn_i24, pn_gdi _ (by omega) (by omega), nI_clamp (by omega), nI_clamp (by omega), nI_clamp (by omega), x1, x2, x3, pn_m_has (by omega), dx_b1_eq _ rfl, e9]
    show _ = some (Sum.inl (nI (i + 1), pn_mW μ (pn_st N but d i (pn_fc N but d W i))))
    unfold pn_st
    by_cases h1 : pn_d N i = d
    · rw [if_pos (by rw [h1])]
      cases h2 : pb_bt but i with
      | true => rw [if_neg (fun h => by cases h.2)]; rfl
      | false =>
        rw [if_pos ⟨h1, rfl⟩]
        show dx_gd (dx_inb (nI (22 + 3 * i)) 52) _ = _
        rw [pn_gdi _ (by omega) (by omega), pn_gdi _ (by omega) (by omega), dx_b1_eq _ (pn_m_gv hk hm hN _ c1 c2 hd)]
        rw [pn_gdi _ (by omega) (by omega), pn_gdi _ (by omega) (by omega), pn_mW_k _ hk, x1, x2, dx_b1_eq _ (pn_m_gv hk hm hN _ c2 c1 hd)]
    · rw [if_neg (fun h => h1 ((pb_inj (by omega) (by omega)).mp h)), if_neg (fun h => h1 h.1)]
  · show mo_walks_L59 k0 (pn_mW μ (pn_fc N but d W (pn_C N))) but (nI d) (nI (pn_C N)) = _
    have e9 : nI d + (1 : Int32) = nI (d + 1) := (nI_succ d).symm
    unfold mo_walks_L59
    rw [hk, dx_gd_t _ i1, e1, pn_mW_k _ hk, hm.2.1, if_pos ((pb_le (by omega) (by omega)).mpr (Nat.le_refl _)), e9]
    rfl
theorem pn_m_fd (hk : mo_len k0 = 52) (hm : pn_m (μ.2 k0) N) (hN : pn_ok N) (but : Int32) (W : pn_W) {d : Nat} (hd : d ≤ 31) : dx_lp (fun x : Int32 × mo_S => mo_walks_L49 k0 x.2 but x.1) dx_fu (nI d, pn_mW μ (pn_fd N but W d)) = some (pn_mW μ (pn_fd N but W 31)) := by
  have key := pb_lp (b := fun x : Int32 × mo_S => mo_walks_L49 k0 x.2 but x.1) (z := pn_mW μ (pn_fd N but W 31)) (31 - d) (fun i => (nI (d + i), pn_mW μ (pn_fd N but W (d + i)))) (fun i hi => ?_) ?_ (by omega)
  · exact key
  · show mo_walks_L49 k0 (pn_mW μ (pn_fd N but W (d + i))) but (nI (d + i)) = some (.inl (nI (d + (i + 1)), pn_mW μ (pn_fd N but W (d + (i + 1)))))
    unfold mo_walks_L49
    have h31 : ¬ (31 : Int32) ≤ nI (d + i) := fun h => absurd ((pb_le (a := 31) (by omega) (by omega)).mp h) (by omega)
    rw [if_neg h31, pn_m_fc hk hm hN but _ (by omega)]
    rfl
  · show mo_walks_L49 k0 (pn_mW μ (pn_fd N but W (d + (31 - d)))) but (nI (d + (31 - d))) = _
    have e : d + (31 - d) = 31 := by omega
    rw [e]
    unfold mo_walks_L49
    rw [if_pos (by decide)]
    rfl
theorem pn_mW_self (μ : mo_S) : pn_mW μ (μ.2 11, μ.2 12) = μ := by
  refine Prod.ext rfl ?_
  funext j
  show va_up (va_up μ.2 11 (μ.2 11)) 12 (μ.2 12) j = μ.2 j
  unfold va_up
  by_cases h1 : j = 11
  · subst h1; simp
  · by_cases h2 : j = 12
    · subst h2; simp
    · simp [h1, h2]
/-- **DatedContactsModel.walks** -/
theorem pn_m_walks (hk : mo_len k0 = 52) (hm : pn_m (μ.2 k0) N) (hN : pn_ok N) (but : Int32) {s d : Nat} (hs : s < pn_P N) (hd : d < 31) : mo_walks k0 μ (nI s) (nI d) but = some (pn_mW μ (pn_wo N (μ.2 11, μ.2 12) s d but)) := by
  have hP := hN.1
  unfold mo_walks
  obtain ⟨o, ho⟩ : ∃ o : pn_W, o = (μ.2 11, μ.2 12) := ⟨_, rfl⟩
  have e0 : ((0 : Int32), μ) = (nI 0, pn_mW μ (pn_w0 o s d 0)) := by
    show _ = (nI 0, pn_mW μ o)
    rw [ho, pn_mW_self, nI_0]
  rw [e0, ← ho]
  refine pb_lp (b := fun x : Int32 × mo_S => mo_walks_L3 k0 x.2 (nI s) (nI d) but x.1) 9 (fun i => (nI i, pn_mW μ (pn_w0 o s d i))) (fun i hi => ?_) ?_ (by omega)
  · show mo_walks_L3 k0 (pn_mW μ (pn_w0 o s d i)) (nI s) (nI d) but (nI i) = some (.inl (nI (i + 1), pn_mW μ (pn_w0 o s d (i + 1))))
    have h9 : ¬ (9 : Int32) ≤ nI i := fun h => absurd ((pb_le (a := 9) (by omega) (by omega)).mp h) (by omega)
    have e9 : nI i + (1 : Int32) = nI (i + 1) := (nI_succ i).symm
    unfold mo_walks_L3 mo_walks_J29
    rw [if_neg h9, pn_gdi _ (by omega) (by omega), pn_gdi _ (by omega) (by omega), pn_gdi _ (by omega) (by omega), pn_gdi _ (by omega) (by omega), nI_clamp (by omega), e9, pn_mA_D, pn_mA_D, pn_mA_G, pn_mA_G]
    show _ = some (Sum.inl (nI (i + 1), pn_mW μ (upd (pn_w0 o s d i).1 i (if i = s then (1 : Int32) <<< (nI d &&& 31) else 0), upd (pn_w0 o s d i).2 i 0)))
    by_cases h1 : i = s
    · rw [if_pos (by rw [h1]), if_pos h1]
    · rw [if_neg (fun h => h1 ((pb_inj (by omega) (by omega)).mp h)), if_neg h1]
  · show mo_walks_L3 k0 (pn_mW μ (pn_w0 o s d 9)) (nI s) (nI d) but (nI 9) = _
    have e9 : nI d + (1 : Int32) = nI (d + 1) := (nI_succ d).symm
    unfold mo_walks_L3
    rw [if_pos (by decide), e9]
    have h1 := pn_m_fd hk hm hN but (pn_w0 o s d 9) (d := d + 1) (by omega)
    rw [pn_fd_id hN o s hd but (d + 1) (Nat.le_refl _)] at h1
    rw [h1]
    rfl
end PNM
