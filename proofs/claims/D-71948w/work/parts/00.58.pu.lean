/-! cut, givers, spared -/
theorem pb_cntc {α γ τ ρ : Type} {b : γ × Int32 × τ → Option ((γ × Int32 × τ) ⊕ ρ)} (e : α → γ) (c : Nat → Int32) (I : τ → Prop) (g : Nat → α → α) (a : α) (n : Nat) (P : ρ → Prop) (h : ∀ i, i < n → ∀ s, I s → ∃ s', I s' ∧ b (e (pb_fold g a i), c i, s) = some (.inl (e (g i (pb_fold g a i)), c (i + 1), s'))) (hx : ∀ s, I s → ∃ z, b (e (pb_fold g a n), c n, s) = some (.inr z) ∧ P z) (hn : n < 1000000) (s : τ) (hs : I s) : ∃ z, dx_lp b dx_fu (e a, c 0, s) = some z ∧ P z := by
  have key : ∀ m i s, m + i = n → I s → ∀ N, m < N → ∃ z, dx_lp b N (e (pb_fold g a i), c i, s) = some z ∧ P z := by
    intro m
    induction m with
    | zero =>
      intro i s hi hs N hN
      obtain ⟨z, h1, h2⟩ := hx s hs
      obtain ⟨M, rfl⟩ : ∃ M, N = M + 1 := ⟨N - 1, by omega⟩
      have e : i = n := by omega
      subst e
      refine ⟨z, ?_, h2⟩
      unfold dx_lp
      rw [h1]
    | succ m ih =>
      intro i s hi hs N hN
      obtain ⟨M, rfl⟩ : ∃ M, N = M + 1 := ⟨N - 1, by omega⟩
      obtain ⟨s', h1, h2⟩ := h i (by omega) s hs
      obtain ⟨z, h3, h4⟩ := ih (i + 1) s' (by omega) h1 M (by omega)
      refine ⟨z, ?_, h4⟩
      unfold dx_lp
      rw [h2]
      exact h3
  exact key n 0 s (by omega) hs dx_fu hn
/-- how many bits, of small sets -/
def pu_bc (m : Nat) : Nat := ((cl_J17_bitCount (nI m)).getD 0).toInt.toNat
theorem pu_bc_all : ∀ m : Fin 1024, cl_J17_bitCount (nI m.val) = some (nI (pu_bc m.val)) ∧ mo_ones (nI m.val) = some (nI (pu_bc m.val)) ∧ pu_bc m.val ≤ 10 := by decide +kernel
theorem pu_c {m : Nat} (h : m < 1024) : cl_J17_bitCount (nI m) = some (nI (pu_bc m)) := (pu_bc_all ⟨m, h⟩).1
theorem pu_m {m : Nat} (h : m < 1024) : mo_ones (nI m) = some (nI (pu_bc m)) := (pu_bc_all ⟨m, h⟩).2.1
theorem pu_b {m : Nat} (h : m < 1024) : pu_bc m ≤ 10 := (pu_bc_all ⟨m, h⟩).2.2
theorem pu_all {C : Nat} (h : C ≤ 10) : ((1 : Int32) <<< (nI C &&& 31)) - (1 : Int32) = nI (2 ^ C - 1) ∧ (1 : Int32) <<< (nI C &&& 31) = nI (2 ^ C) ∧ 2 ^ C ≤ 1024 ∧ 0 < 2 ^ C := by
  have : ∀ C : Fin 11, ((1 : Int32) <<< (nI C.val &&& 31)) - (1 : Int32) = nI (2 ^ C.val - 1) ∧ (1 : Int32) <<< (nI C.val &&& 31) = nI (2 ^ C.val) ∧ 2 ^ C.val ≤ 1024 ∧ 0 < 2 ^ C.val := by decide +kernel
  exact this ⟨C, by omega⟩
/-- by how many, then by which -/
def pu_le (x y : Nat) : Prop := pu_bc x < pu_bc y ∨ (pu_bc x = pu_bc y ∧ x ≤ y)
theorem pu_le_rf (x : Nat) : pu_le x x := Or.inr ⟨rfl, Nat.le_refl _⟩
theorem pu_le_tr {x y z : Nat} (h1 : pu_le x y) (h2 : pu_le y z) : pu_le x z := by unfold pu_le at *; omega
theorem pu_le_as {x y : Nat} (h1 : pu_le x y) (h2 : pu_le y x) : x = y := by unfold pu_le at *; omega
theorem pu_le_nt {x y : Nat} (h : ¬ pu_le x y) : pu_le y x := by unfold pu_le at *; omega
def pu_dle (x y : Nat) : Decidable (pu_le x y) := by unfold pu_le; exact inferInstance
def pu_leb (x y : Nat) : Bool := decide (pu_bc x < pu_bc y) || (decide (pu_bc x = pu_bc y) && decide (x ≤ y))
theorem pu_leb_iff (x y : Nat) : pu_leb x y = true ↔ pu_le x y := by
  unfold pu_leb pu_le
  rw [Bool.or_eq_true, Bool.and_eq_true, decide_eq_true_iff, decide_eq_true_iff, decide_eq_true_iff]
/-- the least of those up to M that K takes, M itself among them -/
def pu_least (K : Nat → Bool) (M b : Nat) : Prop := (b = M ∨ (b < M ∧ K b = true)) ∧ ∀ m, (m = M ∨ (m < M ∧ K m = true)) → pu_le b m
theorem pu_least_u {K : Nat → Bool} {M b c : Nat} (h1 : pu_least K M b) (h2 : pu_least K M c) : b = c := pu_le_as (h1.2 c h2.1) (h2.2 b h1.1)
def pu_gu (K : Nat → Bool) : Nat → Nat → Nat := fun i b => if pu_leb i b = true ∧ K i = true then i else b
theorem pu_up (K : Nat → Bool) (M : Nat) : pu_least K M (pb_fold (pu_gu K) M M) := by
  have key : ∀ i, i ≤ M → ((pb_fold (pu_gu K) M i = M ∨ (pb_fold (pu_gu K) M i < i ∧ K (pb_fold (pu_gu K) M i) = true)) ∧ ∀ m, (m = M ∨ (m < i ∧ K m = true)) → pu_le (pb_fold (pu_gu K) M i) m) := by
    intro i
    induction i with
    | zero =>
      intro _
      refine ⟨Or.inl rfl, fun m hm => ?_⟩
      rcases hm with rfl | hm
      · exact pu_le_rf _
      · omega
    | succ i ih =>
      intro hi
      obtain ⟨a1, a2⟩ := ih (by omega)
      have e : pb_fold (pu_gu K) M (i + 1) = pu_gu K i (pb_fold (pu_gu K) M i) := rfl
      rw [e]
      generalize pb_fold (pu_gu K) M i = b at a1 a2
      unfold pu_gu
      by_cases hc : pu_leb i b = true ∧ K i = true
      · rw [if_pos hc]
        refine ⟨Or.inr ⟨by omega, hc.2⟩, fun m hm => ?_⟩
        have hle := (pu_leb_iff i b).mp hc.1
        rcases hm with hm | ⟨hm, hk⟩
        · exact pu_le_tr hle (a2 m (Or.inl hm))
        · by_cases hmi : m = i
          · rw [hmi]; exact pu_le_rf _
          · exact pu_le_tr hle (a2 m (Or.inr ⟨by omega, hk⟩))
      · rw [if_neg hc]
        refine ⟨?_, fun m hm => ?_⟩
        · rcases a1 with a1 | a1
          · exact Or.inl a1
          · exact Or.inr ⟨by omega, a1.2⟩
        · rcases hm with hm | ⟨hm, hk⟩
          · exact a2 m (Or.inl hm)
          · by_cases hmi : m = i
            · rw [hmi]
              refine pu_le_nt (fun hle => hc ⟨(pu_leb_iff i b).mpr hle, by rw [← hmi]; exact hk⟩)
            · exact a2 m (Or.inr ⟨by omega, hk⟩)
  have := key M (Nat.le_refl _)
  exact ⟨this.1, this.2⟩
def pu_gd (K : Nat → Bool) (M : Nat) : Nat → Nat → Nat := fun i b => if pu_bc (M - i) ≤ pu_bc b ∧ K (M - i) = true then M - i else b
theorem pu_dn (K : Nat → Bool) (M : Nat) : pu_least K M (pb_fold (pu_gd K M) M (M + 1)) := by
  have key : ∀ i, i ≤ M + 1 → ((pb_fold (pu_gd K M) M i = M ∨ (M - i < pb_fold (pu_gd K M) M i ∧ pb_fold (pu_gd K M) M i < M ∧ K (pb_fold (pu_gd K M) M i) = true) ∨ (i = M + 1 ∧ pb_fold (pu_gd K M) M i < M ∧ K (pb_fold (pu_gd K M) M i) = true)) ∧ ∀ m, (m = M ∨ (M < m + i ∧ m < M ∧ K m = true)) → pu_le (pb_fold (pu_gd K M) M i) m) := by
    intro i
    induction i with
    | zero =>
      intro _
      refine ⟨Or.inl rfl, fun m hm => ?_⟩
      rcases hm with rfl | hm
      · exact pu_le_rf _
      · omega
    | succ i ih =>
      intro hi
      obtain ⟨a1, a2⟩ := ih (by omega)
      have e : pb_fold (pu_gd K M) M (i + 1) = pu_gd K M i (pb_fold (pu_gd K M) M i) := rfl
      rw [e]
      generalize pb_fold (pu_gd K M) M i = b at a1 a2
      unfold pu_gd
      have hbi : M - i ≤ b := by omega
      by_cases hc : pu_bc (M - i) ≤ pu_bc b ∧ K (M - i) = true
      · rw [if_pos hc]
        have hle : pu_le (M - i) b := by unfold pu_le; omega
        refine ⟨?_, fun m hm => ?_⟩
        · by_cases h0 : i = 0
          · exact Or.inl (by omega)
          · by_cases h1 : i = M
            · exact Or.inr (Or.inr ⟨by omega, by omega, hc.2⟩)
            · exact Or.inr (Or.inl ⟨by omega, by omega, hc.2⟩)
        · rcases hm with hm | ⟨hm, hk, hk2⟩
          · exact pu_le_tr hle (a2 m (Or.inl hm))
          · by_cases hmi : m = M - i
            · rw [hmi]; exact pu_le_rf _
            · exact pu_le_tr hle (a2 m (Or.inr ⟨by omega, hk, hk2⟩))
      · rw [if_neg hc]
        refine ⟨?_, fun m hm => ?_⟩
        · rcases a1 with a1 | a1 | a1
          · exact Or.inl a1
          · by_cases h1 : i = M
            · exact Or.inr (Or.inr ⟨by omega, a1.2.1, a1.2.2⟩)
            · exact Or.inr (Or.inl ⟨by omega, a1.2.1, a1.2.2⟩)
          · omega
        · rcases hm with hm | ⟨hm, hk, hk2⟩
          · exact a2 m (Or.inl hm)
          · by_cases hmi : m = M - i
            · have hn : ¬ pu_bc m ≤ pu_bc b := fun h => hc ⟨by rw [← hmi]; exact h, by rw [← hmi]; exact hk2⟩
              unfold pu_le
              omega
            · exact a2 m (Or.inr ⟨by omega, hk, hk2⟩)
  have := key (M + 1) (Nat.le_refl _)
  refine ⟨?_, fun m hm => this.2 m ?_⟩
  · rcases this.1 with a | a | a
    · exact Or.inl a
    · exact Or.inr ⟨a.2.1, a.2.2⟩
    · exact Or.inr ⟨a.2.1, a.2.2⟩
  · rcases hm with hm | hm
    · exact Or.inl hm
    · exact Or.inr ⟨by omega, hm.1, hm.2⟩
