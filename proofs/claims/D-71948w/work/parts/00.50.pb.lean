/-! the plain law, its base: small numbers, bits, loops -/
theorem pb_add (a b : Nat) : nI a + nI b = nI (a + b) := by
  unfold nI
  exact (Int32.ofNat_add a b).symm
theorem pb_mul (a b : Nat) : nI a * nI b = nI (a * b) := by
  unfold nI
  exact (Int32.ofNat_mul a b).symm
theorem pb_sub {a b : Nat} (h : b ≤ a) : nI a - nI b = nI (a - b) := by
  have h2 : a = (a - b) + b := by omega
  rw [h2, ← pb_add]
  simp
theorem pb_inj {a b : Nat} (ha : a < 2 ^ 31) (hb : b < 2 ^ 31) : nI a = nI b ↔ a = b := by
  constructor
  · intro h
    have h1 := congrArg Int32.toInt h
    rw [nI_toInt ha, nI_toInt hb] at h1
    omega
  · intro h; rw [h]
theorem pb_le {a b : Nat} (ha : a < 2 ^ 31) (hb : b < 2 ^ 31) : nI a ≤ nI b ↔ a ≤ b := by
  rw [Int32.le_iff_toInt_le, nI_toInt ha, nI_toInt hb]; omega
theorem pb_lt {a b : Nat} (ha : a < 2 ^ 31) (hb : b < 2 ^ 31) : nI a < nI b ↔ a < b := by
  rw [Int32.lt_iff_toInt_lt, nI_toInt ha, nI_toInt hb]; omega
theorem pb_neg {a : Nat} (ha : a < 2 ^ 31) : ¬ nI a < 0 := nI_pos ha
theorem pb_inb {a n : Nat} (ha : a < 2 ^ 31) : dx_inb (nI a) n = decide (a < n) := by
  unfold dx_inb
  rw [nI_toInt ha]
  simp
theorem pb_of {v : Int32} (h : ¬ v < 0) : ∃ n, n < 2 ^ 31 ∧ v = nI n := by
  have h0 : (0 : Int) ≤ v.toInt := by
    have := Int32.not_lt.mp h
    simpa using Int32.le_iff_toInt_le.mp this
  have h1 := Int32.toInt_lt v
  have hb : v.toInt.toNat < 2 ^ 31 := by omega
  refine ⟨v.toInt.toNat, hb, ?_⟩
  apply Int32.toInt_inj.mp
  rw [nI_toInt hb]
  omega
/-- a bit of an int -/
def pb_bt (x : Int32) (k : Nat) : Bool := x.toBitVec.getLsbD k
theorem pb_ext {x y : Int32} (h : ∀ k, k < 32 → pb_bt x k = pb_bt y k) : x = y := by
  apply Int32.toBitVec_inj.mp
  apply BitVec.eq_of_getLsbD_eq
  intro k hk
  exact h k hk
theorem pb_bt0 (k : Nat) : pb_bt 0 k = false := by simp [pb_bt]
theorem pb_or (x y : Int32) (k : Nat) : pb_bt (x ||| y) k = (pb_bt x k || pb_bt y k) := by simp [pb_bt]
theorem pb_and (x y : Int32) (k : Nat) : pb_bt (x &&& y) k = (pb_bt x k && pb_bt y k) := by simp [pb_bt]
theorem pb_mask {k : Nat} (h : k < 32) : nI k &&& 31 = nI k := by
  have : ∀ k : Fin 32, nI k.val &&& 31 = nI k.val := by decide +kernel
  exact this ⟨k, h⟩
theorem pb_one {k : Nat} (hk : k < 32) (j : Nat) : pb_bt ((1 : Int32) <<< nI k) j = decide (j = k) := by
  by_cases hj : j < 32
  · have : ∀ k j : Fin 32, pb_bt ((1 : Int32) <<< nI k.val) j.val = decide (j.val = k.val) := by decide +kernel
    exact this ⟨k, hk⟩ ⟨j, hj⟩
  · have h2 : ¬ j = k := by omega
    have h3 : pb_bt ((1 : Int32) <<< nI k) j = false := BitVec.getLsbD_of_ge _ _ (by omega)
    rw [h3]
    simp [h2]
theorem pb_one' {k : Nat} (hk : k < 32) (j : Nat) : pb_bt ((1 : Int32) <<< (nI k &&& 31)) j = decide (j = k) := by
  rw [pb_mask hk, pb_one hk]
theorem pb_shr {k : Nat} (x : Int32) (hk : k < 32) (j : Nat) (hj : k + j < 32) : pb_bt (x >>> nI k) j = pb_bt x (k + j) := by
  have h1 : (nI k).toBitVec.smod 32 = BitVec.ofNat 32 k := by
    have : ∀ k : Fin 32, (nI k.val).toBitVec.smod 32 = BitVec.ofNat 32 k.val := by decide +kernel
    exact this ⟨k, hk⟩
  unfold pb_bt
  rw [Int32.toBitVec_shiftRight, h1]
  unfold BitVec.sshiftRight'
  rw [BitVec.toNat_ofNat, Nat.mod_eq_of_lt (by omega), BitVec.getLsbD_sshiftRight]
  have : ¬ 32 ≤ j := by omega
  simp [this, hj]
/-- 'has' -/
theorem pb_has {k : Nat} (x : Int32) (hk : k < 32) : ((x >>> (nI k &&& 31)) &&& (1 : Int32)) = (1 : Int32) ↔ pb_bt x k = true := by
  rw [pb_mask hk]
  have one : ∀ j, pb_bt 1 j = decide (j = 0) := by
    intro j
    have := pb_one (k := 0) (by omega) j
    simpa [nI_0] using this
  constructor
  · intro h
    have h1 := congrArg (fun z => pb_bt z 0) h
    simp only [pb_and, one] at h1
    rw [pb_shr x hk 0 (by omega)] at h1
    simpa using h1
  · intro h
    apply pb_ext
    intro j hj
    rw [pb_and, one]
    by_cases h0 : j = 0
    · subst h0
      rw [pb_shr x hk 0 (by omega)]
      simpa using h
    · simp [h0]
theorem pb_and0 (x y : Int32) : (x &&& y) = 0 ↔ ∀ k, k < 32 → ¬ (pb_bt x k = true ∧ pb_bt y k = true) := by
  constructor
  · intro h k hk hb
    have h1 := congrArg (fun z => pb_bt z k) h
    simp only [pb_and, pb_bt0, hb.1, hb.2] at h1
    cases h1
  · intro h
    apply pb_ext
    intro k hk
    rw [pb_and, pb_bt0]
    have := h k hk
    cases h1 : pb_bt x k <;> cases h2 : pb_bt y k <;> simp_all
theorem pb_eq0 (x : Int32) : x = 0 ↔ ∀ k, k < 32 → pb_bt x k = false := by
  constructor
  · intro h k _; rw [h, pb_bt0]
  · intro h
    apply pb_ext
    intro k hk
    rw [h k hk, pb_bt0]
/-- loops by their steps -/
theorem pb_lp {S ρ : Type} {b : S → Option (S ⊕ ρ)} {z : ρ} (n : Nat) (st : Nat → S) (h0 : ∀ i, i < n → b (st i) = some (.inl (st (i + 1)))) (h1 : b (st n) = some (.inr z)) (hn : n < 1000000) : dx_lp b dx_fu (st 0) = some z :=
  dx_lp_run n st h0 h1 _ hn
/-- a loop by what holds before each round -/
theorem pb_inv {S ρ : Type} {b : S → Option (S ⊕ ρ)} (I : S → Prop) (μ : S → Nat) (P : ρ → Prop) (hb : ∀ x, I x → (∃ y, b x = some (.inl y) ∧ I y ∧ μ y < μ x) ∨ (∃ r, b x = some (.inr r) ∧ P r)) : ∀ (N : Nat) (x : S), I x → μ x < N → ∃ r, dx_lp b N x = some r ∧ P r := by
  intro N
  induction N with
  | zero => intro x _ h; omega
  | succ N ih =>
    intro x hx hm
    rcases hb x hx with ⟨y, h1, h2, h3⟩ | ⟨r, h1, h2⟩
    · obtain ⟨r, h4, h5⟩ := ih y h2 (by omega)
      refine ⟨r, ?_, h5⟩
      unfold dx_lp
      rw [h1]
      exact h4
    · refine ⟨r, ?_, h2⟩
      unfold dx_lp
      rw [h1]
