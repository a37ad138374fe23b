/-! notes; Net.stirred; personBy -/
theorem pn_m_c {w w' : Nat → Int32} {N : pn_N} (hN : pn_ok N) (h : ∀ i, i < 52 → w' i = w i) (hm : pn_m w N) : pn_m w' N := by
  have hP := hN.1
  have hC := hN.2.1
  obtain ⟨a0, a1, a2, a3, a4, a5⟩ := hm
  refine ⟨by rw [h 0 (by omega), a0], by rw [h 1 (by omega), a1], by rw [h 2 (by omega), a2], by rw [h 3 (by omega), a3], fun p hp => ?_, fun c hc => ?_⟩
  · rw [h _ (by omega), h _ (by omega)]
    exact a4 p hp
  · rw [h _ (by omega), h _ (by omega), h _ (by omega)]
    exact a5 c hc
theorem pb_cnti {X ρ τ : Type} {b : X → Option (X ⊕ ρ)} (st : Nat → τ → X) (I : Nat → τ → Prop) (n : Nat) (P : ρ → Prop) (h : ∀ i, i < n → ∀ s, I i s → ∃ s', I (i + 1) s' ∧ b (st i s) = some (.inl (st (i + 1) s'))) (hx : ∀ s, I n s → ∃ z, b (st n s) = some (.inr z) ∧ P z) (F : Nat) (hn : n < F) (s : τ) (hs : I 0 s) : ∃ z, dx_lp b F (st 0 s) = some z ∧ P z := by
  have key : ∀ m i s, m + i = n → I i s → ∀ N, m < N → ∃ z, dx_lp b N (st i s) = some z ∧ P z := by
    intro m
    induction m with
    | zero =>
      intro i s hi hs N hN
      have e : i = n := by omega
      subst e
      obtain ⟨z, h1, h2⟩ := hx s hs
      obtain ⟨M, rfl⟩ : ∃ M, N = M + 1 := ⟨N - 1, by omega⟩
      refine ⟨z, ?_, h2⟩
      unfold dx_lp
      rw [h1]
    | succ m ih =>
      intro i s hi hs N hN
      obtain ⟨M, rfl⟩ : ∃ M, N = M + 1 := ⟨N - 1, by omega⟩
      obtain ⟨s', h1, h2⟩ := h i (by omega) s hs
      obtain ⟨z, h3, h4⟩ := ih (i + 1) s' (by omega) h1 M (by omega)
      refine ⟨z, ?_, h4⟩
      unfold dx_lp
      rw [h2]
      exact h3
  exact key n 0 s (by omega) hs F hn
section PI0
variable {μ : mo_S} {S : pa_S}
/-- nothing but array 8 and number 8 -/
def pi_only (μ μ' : mo_S) : Prop := (∀ k, k ≠ 8 → μ'.1 k = μ.1 k) ∧ (∀ k, k ≠ 8 → μ'.2 k = μ.2 k)
theorem pi_R {μ' : mo_S} (h : pi_only μ μ') (hm : pm_R μ S) (f : Nat → pn_N) (n : Nat) (h8 : μ'.1 8 = nI n) (hp : ∀ k, k < n → pn_m (fun i => μ'.2 8 (52 * k + i)) (f k)) : pm_R μ' ((pa_net S, f, n), S.2) := by
  obtain ⟨m1, -, m3, m4, m5, m6, m7⟩ := hm
  refine ⟨?_, ⟨h8, hp⟩, fun j hj => ?_, fun j hj => ?_, ?_, ?_, ?_⟩
  · rw [h.2 5 (by decide)]; exact m1
  · unfold pm_img
    rw [h.2 10 (by decide), h.2 9 (by decide)]
    exact m3 j hj
  · unfold pm_row
    rw [h.2 0 (by decide), h.2 1 (by decide), h.2 2 (by decide)]
    exact m4 j hj
  · rw [h.1 1 (by decide), h.2 4 (by decide)]; exact m5
  · rw [h.1 2 (by decide), h.1 0 (by decide)]; exact m6
  · rw [h.1 11 (by decide), h.2 16 (by decide)]; exact m7
theorem pi_J49 (hm : pm_R μ S) (hN : pn_ok (pa_net S)) (hP : ∀ k, k < pa_acts S → pn_ok (pa_past S k)) (ha : pa_acts S < 16) : ∃ μ', mo_notes_J49 μ = some μ' ∧ pm_R μ' ((pa_net S, va_up (pa_past S) (pa_acts S) (pa_net S), pa_acts S + 1), S.2) ∧ pi_only μ μ' := by
  obtain ⟨a, hae⟩ : ∃ a, a = pa_acts S := ⟨_, rfl⟩
  rw [← hae] at ha ⊢
  have e8 : μ.1 8 = nI a := by rw [hae]; exact hm.2.1.1
  have e52 : (52 : Int32) * μ.1 8 = nI (52 * a) := by rw [e8]; exact pb_mul 52 a
  have l5 : mo_len 5 = 52 := rfl
  have l8 : mo_len 8 = 832 := rfl
  have hc := pj_copies (μ := μ) (k0 := 5) (k2 := 8) (by decide) (p1 := 0) (p3 := 52 * a) (by omega) (by omega) (by omega)
  rw [nI_0] at hc
  have only : pi_only μ (mo_I (μ.1, va_up μ.2 8 (va_cpy (μ.2 5) (μ.2 8) 0 (52 * a) 52)) 8 (nI (a + 1))) := by
    refine ⟨fun k hk => ?_, fun k hk => ?_⟩
    · show upd μ.1 8 _ k = _
      unfold upd
      rw [if_neg hk]
    · show va_up μ.2 8 _ k = _
      rw [va_up_ne _ _ hk]
  refine ⟨_, ?_, pi_R only hm _ _ rfl (fun k hk => ?_), only⟩
  · unfold mo_notes_J49
    rw [e52, hc, pb_b1]
    show some (mo_I _ 8 (μ.1 8 + 1)) = _
    rw [e8, ← nI_succ]
  · show pn_m (fun i => va_up μ.2 8 (va_cpy (μ.2 5) (μ.2 8) 0 (52 * a) 52) 8 (52 * k + i)) (va_up (pa_past S) a (pa_net S) k)
    rw [va_up_self]
    by_cases hka : k = a
    · rw [hka, va_up_self]
      refine pn_m_c hN (fun i hi => ?_) hm.1
      show va_cpy (μ.2 5) (μ.2 8) 0 (52 * a) 52 (52 * a + i) = μ.2 5 i
      unfold va_cpy
      rw [if_pos ⟨by omega, by omega⟩, show 0 + (52 * a + i - 52 * a) = i by omega]
    · rw [va_up_ne _ _ hka]
      refine pn_m_c (hP k (by omega)) (fun i hi => ?_) (hm.2.1.2 k (by omega))
      show va_cpy (μ.2 5) (μ.2 8) 0 (52 * a) 52 (52 * k + i) = μ.2 8 (52 * k + i)
      unfold va_cpy
      rw [if_neg (by omega)]
def pi_sh (f : Nat → Int32) : Nat → Nat → Int32
  | 0 => f
  | i + 1 => upd (pi_sh f i) i (pi_sh f i (i + 52))
theorem pi_sh_at (f : Nat → Int32) : ∀ i k, pi_sh f i k = if k < i then f (k + 52) else f k := by
  intro i
  induction i with
  | zero => intro k; rfl
  | succ i ih =>
    intro k
    show upd (pi_sh f i) i (pi_sh f i (i + 52)) k = _
    unfold upd
    by_cases hk : k = i
    · rw [if_pos hk, ih (i + 52), if_neg (by omega), if_pos (by omega), hk]
    · rw [if_neg hk, ih k]
      by_cases h2 : k < i
      · rw [if_pos h2, if_pos (by omega)]
      · rw [if_neg h2, if_neg (by omega)]
/-- **notes** -/
theorem pi_notes (hm : pm_R μ S) (hN : pn_ok (pa_net S)) (hP : ∀ k, k < pa_acts S → pn_ok (pa_past S k)) (ha : pa_acts S ≤ 16) : ∃ μ', mo_notes μ = some μ' ∧ pm_R μ' (pa_kp S) ∧ pi_only μ μ' := by
  have e8 : μ.1 8 = nI (pa_acts S) := hm.2.1.1
  unfold mo_notes pa_kp
  by_cases h16 : pa_acts S = 16
  · have e16 : μ.1 8 = (16 : Int32) := by rw [e8, h16]; rfl
    rw [if_pos e16, if_pos h16]
    obtain ⟨ν, hν⟩ : ∃ ν : mo_S, ν = mo_I (μ.1, va_up μ.2 8 (pi_sh (μ.2 8) 780)) 8 (nI 15) := ⟨_, rfl⟩
    have only : pi_only μ ν := by
      rw [hν]
      refine ⟨fun k hk => ?_, fun k hk => ?_⟩
      · show upd μ.1 8 _ k = _
        unfold upd
        rw [if_neg hk]
      · show va_up μ.2 8 _ k = _
        rw [va_up_ne _ _ hk]
    have R1 : pm_R ν ((pa_net S, fun k => pa_past S (k + 1), 15), S.2) := by
      refine pi_R only hm _ _ (by rw [hν]; rfl) (fun k hk => ?_)
      refine pn_m_c (hP (k + 1) (by omega)) (fun i hi => ?_) (hm.2.1.2 (k + 1) (by omega))
      rw [hν]
      show va_up μ.2 8 (pi_sh (μ.2 8) 780) 8 (52 * k + i) = μ.2 8 (52 * (k + 1) + i)
      rw [va_up_self, pi_sh_at, if_pos (by omega), show 52 * k + i + 52 = 52 * (k + 1) + i by omega]
    obtain ⟨μ', b1, b2, b3⟩ := pi_J49 R1 hN (fun k hk => hP (k + 1) (by have : k < 15 := hk; omega)) (by show 15 < 16; omega)
    refine ⟨μ', ?_, b2, ⟨fun k hk => (b3.1 k hk).trans (only.1 k hk), fun k hk => (b3.2 k hk).trans (only.2 k hk)⟩⟩
    have e0 : ((0 : Int32), μ) = (nI 0, ((μ.1, va_up μ.2 8 (pi_sh (μ.2 8) 0)) : mo_S)) := by
      refine Prod.ext rfl (Prod.ext rfl ?_)
      funext j
      show μ.2 j = va_up μ.2 8 (μ.2 8) j
      unfold va_up
      split
      · rename_i e; rw [e]
      · rfl
    rw [e0]
    refine pb_lp (b := fun x : Int32 × mo_S => mo_notes_L11 x.2 x.1) 780 (fun i => (nI i, ((μ.1, va_up μ.2 8 (pi_sh (μ.2 8) i)) : mo_S))) (fun i hi => ?_) ?_ (by omega)
    · show mo_notes_L11 (μ.1, va_up μ.2 8 (pi_sh (μ.2 8) i)) (nI i) = _
      have h780 : ¬ (780 : Int32) ≤ nI i := fun h => absurd ((pb_le (a := 780) (by omega) (by omega)).mp h) (by omega)
      have e52 : nI i + (52 : Int32) = nI (i + 52) := pb_add i 52
      unfold mo_notes_L11
      rw [if_neg h780, e52, pn_gdi _ (by omega) (by omega), pn_gdi _ (by omega) (by omega), nI_clamp (by omega), nI_clamp (by omega), ← nI_succ]
      congr 3
      refine Prod.ext rfl ?_
      funext j
      show va_up (va_up μ.2 8 _) 8 (upd (va_up μ.2 8 (pi_sh (μ.2 8) i) 8) i (va_up μ.2 8 (pi_sh (μ.2 8) i) 8 (i + 52))) j = va_up μ.2 8 _ j
      rw [va_up_self]
      unfold va_up
      split <;> rfl
    · show mo_notes_L11 (μ.1, va_up μ.2 8 (pi_sh (μ.2 8) 780)) (nI 780) = _
      unfold mo_notes_L11
      rw [if_pos (by decide)]
      have eν : mo_I (μ.1, va_up μ.2 8 (pi_sh (μ.2 8) 780)) 8 (((μ.1, va_up μ.2 8 (pi_sh (μ.2 8) 780)) : mo_S).1 8 - 1) = ν := by
        rw [hν]
        show mo_I _ 8 (μ.1 8 - 1) = _
        rw [e16]
        rfl
      rw [eν, b1]
      rfl
  · have e16 : ¬ μ.1 8 = (16 : Int32) := by rw [e8]; exact fun h => h16 ((pb_inj (b := 16) (by omega) (by omega)).mp h)
    rw [if_neg e16, if_neg h16]
    exact pi_J49 hm hN hP (by omega)
end PI0
/-- a net whose windows may be old -/
def pc_M (σ : cl_S) (o : Nat) (N : pn_N) : Prop := pc_sh σ o ∧ (cl_i σ o 0 = nI (pn_P N) ∧ cl_i σ o 1 = nI (pn_C N) ∧ cl_i σ o 2 = nI (pn_lo N) ∧ cl_i σ o 3 = nI (pn_hi N)) ∧ (∀ p, p < pn_P N → pc_P σ (cl_r σ (o + 1) p) p (pn_kd N p) ∧ cl_i σ (o + 2) p = pn_il N p) ∧ (∀ c, c < pn_C N → cl_i σ (o + 3) c = nI (pn_a N c) ∧ cl_i σ (o + 4) c = nI (pn_b N c) ∧ cl_i σ (o + 5) c = nI (pn_d N c)) ∧ pc_ar σ o
section PI1
variable {σ : cl_S} {o : Nat} {N : pn_N}
theorem pi_told (σ : cl_S) (hK : cl_K ≤ cl_n σ) (lo hi : Nat) : ∃ τ, cl_X16_init (cl_n σ + 1) (cl_nw σ 14 0) (nI lo) (nI hi) = some τ ∧ pc_fr σ τ pc_0 pc_0 ∧ pc_W τ (cl_n σ + 1) lo hi ∧ cl_n τ = cl_n σ + 1 := by
  have k : cl_k (cl_nw σ 14 0) (cl_n σ + 1) = 14 := by rw [pc_k_nw, if_pos rfl]
  unfold cl_X16_init
  rw [pb_gdD _ k]
  refine ⟨_, rfl, pc_fr_sin (pc_fr_sin (pc_fr_nw σ 14 0) (by omega) _) (by omega) _, ⟨⟨by omega, Nat.le_refl _⟩, k, ?_, ?_⟩, rfl⟩
  · rw [pc_wi, pc_i_si_s, pc_wi, pc_i_si_s]
    rfl
  · rw [pc_wi, pc_i_si_s]
    rfl
theorem pi_dw {r v p k lo hi : Nat} (hK : cl_K ≤ cl_n σ) (hP : pc_P σ r p k) (hk : 1 ≤ k ∧ k ≤ 5) (hW : pc_W σ v lo hi) (hb : 1 ≤ lo ∧ lo ≤ hi ∧ hi ≤ 100) : ∃ w τ, cl_dP_window r v σ = some (w, τ) ∧ pc_fr σ τ pc_0 pc_0 ∧ (if k < 4 then pc_W τ w (if k = 2 then lo + 1 else lo) (if k = 2 then hi + 1 else if k = 3 ∧ lo < hi then hi - 1 else hi) else w = 0) := by
  obtain ⟨⟨g1, g2⟩, g3, -⟩ := hP
  have hW0 := hW
  obtain ⟨⟨w1, w2⟩, w3, w4, w5⟩ := hW
  have nv : ¬ v = 0 := by omega
  have nr : ¬ r = cl_n σ + 1 := by omega
  have nv2 : ¬ v = cl_n σ + 1 := by omega
  have h5 : k = 1 ∨ k = 2 ∨ k = 3 ∨ k = 4 ∨ k = 5 := by omega
  have kr : cl_k (cl_nw σ 14 0) r = cl_k σ r := by rw [pc_k_nw, if_neg nr]
  have kv : cl_k (cl_nw σ 14 0) v = 14 := by rw [pc_k_nw, if_neg nv2, w3]
  have iv : cl_i (cl_nw σ 14 0) v = cl_i σ v := by rw [pc_i_nw, if_neg nv2]
  unfold cl_dP_window
  rcases h5 with rfl | rfl | rfl | rfl | rfl
  · rw [if_pos g3]
    exact ⟨v, σ, rfl, pc_fr_rf _ _ _, hW0⟩
  · obtain ⟨τ, b1, b2, b3, b4⟩ := pi_told σ hK (lo + 1) (hi + 1)
    rw [if_neg (by omega), if_pos g3]
    refine ⟨cl_n σ + 1, τ, ?_, b2, b3⟩
    unfold cl_X12_window cl_X10_window cl_X16_least cl_X16_most
    rw [kr, pb_gdD _ g3, pb_b1, pb_gdD _ nv, pb_gdD _ kv, pb_gdD _ kv, pb_b1, pb_b1, pb_gdD _ nv, pb_gdD _ kv, pb_gdD _ kv, pb_b1, iv, w4, w5, ← nI_succ, ← nI_succ, b1]
    rfl
  · obtain ⟨τ, b1, b2, b3, b4⟩ := pi_told σ hK lo (if lo < hi then hi - 1 else hi)
    rw [if_neg (by omega), if_neg (by omega), if_pos g3]
    refine ⟨cl_n σ + 1, τ, ?_, b2, ?_⟩
    · unfold cl_X13_window cl_X10_window cl_X16_least cl_X16_most
      rw [pb_gdD _ g3, pb_b1, pb_gdD _ nv, pb_gdD _ kv, pb_gdD _ kv, pb_b1, pb_b1, pb_gdD _ kv, pb_b1, iv, w4, w5]
      have e : (if nI lo < nI hi - (1 : Int32) then nI hi - (1 : Int32) else nI lo) = nI (if lo < hi then hi - 1 else hi) := by
        have e1 : nI hi - (1 : Int32) = nI (hi - 1) := by rw [pl_1, pb_sub (by omega)]
        rw [e1]
        by_cases h1 : lo < hi - 1
        · rw [if_pos ((pb_lt (by omega) (by omega)).mpr h1), if_pos (by omega)]
        · rw [if_neg (fun h => h1 ((pb_lt (by omega) (by omega)).mp h))]
          by_cases h2 : lo < hi
          · rw [if_pos h2]; congr 1; omega
          · rw [if_neg h2]; congr 1; omega
      rw [e, b1]
      rfl
    · show pc_W τ (cl_n σ + 1) lo (if 3 = 3 ∧ lo < hi then hi - 1 else hi)
      by_cases h2 : lo < hi
      · rw [if_pos ⟨rfl, h2⟩]
        rw [if_pos h2] at b3
        exact b3
      · rw [if_neg (fun h => h2 h.2)]
        rw [if_neg h2] at b3
        exact b3
  · rw [if_neg (by omega), if_neg (by omega), if_neg (by omega), if_pos g3]
    exact ⟨0, σ, rfl, pc_fr_rf _ _ _, rfl⟩
  · rw [if_neg (by omega), if_neg (by omega), if_neg (by omega), if_neg (by omega), if_pos g3]
    exact ⟨0, σ, rfl, pc_fr_rf _ _ _, rfl⟩
theorem pi_M_fr {σ' : cl_S} {Z Y : Nat → Prop} (h : pc_fr σ σ' Z Y) (hz : pc_ap σ Z Y o) (hN : pn_ok N) (hn : pc_M σ o N) : pc_M σ' o N := by
  obtain ⟨hs, ⟨v0, v1, v2, v3⟩, hP, hC, hA⟩ := hn
  have hb := hs.1.2
  have hc := h.1
  have at_ : ∀ y, o ≤ y → y ≤ o + 6 → cl_i σ' y = cl_i σ y ∧ cl_r σ' y = cl_r σ y := by
    intro y h1 h2
    obtain ⟨-, -, b3, b4⟩ := h.2 y (by omega)
    exact ⟨b3 (fun hz' => (hz.1 y (by omega) hz').1 ⟨h1, h2⟩), b4 (fun hz' => (hz.2 y (by omega) hz') ⟨h1, h2⟩)⟩
  obtain ⟨i0, q0⟩ := at_ o (by omega) (by omega)
  obtain ⟨-, q1⟩ := at_ (o + 1) (by omega) (by omega)
  obtain ⟨i2, -⟩ := at_ (o + 2) (by omega) (by omega)
  obtain ⟨i3, -⟩ := at_ (o + 3) (by omega) (by omega)
  obtain ⟨i4, -⟩ := at_ (o + 4) (by omega) (by omega)
  obtain ⟨i5, -⟩ := at_ (o + 5) (by omega) (by omega)
  obtain ⟨-, q6⟩ := at_ (o + 6) (by omega) (by omega)
  refine ⟨pc_sh_fr h (fun hy => hz.2 o (by omega) hy ⟨by omega, by omega⟩) hs, ⟨by rw [i0, v0], by rw [i0, v1], by rw [i0, v2], by rw [i0, v3]⟩, fun p hp => ?_, fun c hc' => ?_, fun j hj => ?_⟩
  · obtain ⟨p1, p2⟩ := hP p hp
    have hk := hN.2.2.2.1 p hp
    rw [q1, i2]
    exact ⟨pc_P_fr h (fun y h1 h2 => (hz.1 y h1 h2).2) ⟨hk.1, hk.2.1⟩ p1, p2⟩
  · rw [i3, i4, i5]
    exact hC c hc'
  · obtain ⟨a1, a2⟩ := hA j hj
    rw [q1, q6]
    refine ⟨?_, ?_⟩
    · rcases a1 with a1 | ⟨a3, a4, a5⟩
      · exact Or.inl a1
      · have := (h.2 _ a3).1
        exact Or.inr ⟨by omega, by omega, by omega⟩
    · rcases a2 with a2 | ⟨a3, a4⟩
      · exact Or.inl a2
      · have := (h.2 _ a3).1
        exact Or.inr ⟨by omega, by omega⟩
/-- **Net.stirred** -/
theorem pi_stirred (h : pc_M σ o N) (hN : pn_ok N) (hP0 : 0 < pn_P N) : ∃ σ', cl_X2_stirred o σ = some (o, σ') ∧ pc_fr σ σ' pc_0 (fun y => y = o + 6) ∧ pc_N σ' o N := by
  have hP9 := hN.1
  obtain ⟨hl1, hl2, hl3, hl4⟩ := hN.2.2.1 hP0
  obtain ⟨s0, s1⟩ := h.1.1
  have hK : cl_K ≤ cl_n σ := by omega
  obtain ⟨τ0, b1, b2, b3, b4⟩ := pi_told σ hK (pn_lo N) (pn_hi N)
  have k0 : cl_k (cl_nw σ 14 0) o = 2 := by rw [pc_k_nw, if_neg (by omega), h.1.2.1]
  have i0 : cl_i (cl_nw σ 14 0) o = cl_i σ o := by rw [pc_i_nw, if_neg (by omega)]
  have hM0 : pc_M τ0 o N := pi_M_fr b2 ⟨fun _ _ h => h.elim, fun _ _ h => h.elim⟩ hN h
  unfold cl_X2_stirred
  rw [pb_gdD _ k0, i0, h.2.1.2.2.1, h.2.1.2.2.2, b1, pb_b1]
  have key := pb_cnti (b := fun x : Int32 × cl_S => cl_X2_stirred_L18 o x.2 (cl_n σ + 1) x.1) (fun i τ => (nI i, τ)) (fun i τ => pc_fr τ0 τ pc_0 (fun y => y = o + 6) ∧ pc_sh τ o ∧ (∀ p, p < i → pc_Wp τ (cl_r τ (o + 6) p) N p) ∧ (∀ j, j < 9 → cl_r τ (o + 6) j = 0 ∨ (cl_r τ (o + 6) j ≤ cl_n τ ∧ cl_k τ (cl_r τ (o + 6) j) = 14))) (pn_P N) (fun z => z.1 = o ∧ pc_fr τ0 z.2 pc_0 (fun y => y = o + 6) ∧ pc_sh z.2 o ∧ (∀ p, p < pn_P N → pc_Wp z.2 (cl_r z.2 (o + 6) p) N p) ∧ (∀ j, j < 9 → cl_r z.2 (o + 6) j = 0 ∨ (cl_r z.2 (o + 6) j ≤ cl_n z.2 ∧ cl_k z.2 (cl_r z.2 (o + 6) j) = 14))) (fun i hi τ hτ => ?_) (fun τ hτ => ?_) 10 (by omega) τ0 ⟨pc_fr_rf _ _ _, hM0.1, fun p hp => by omega, fun j hj => (hM0.2.2.2.2 j hj).2⟩
  · obtain ⟨z, h1, h2, h3, h4, h5, h6⟩ := key
    rw [nI_0] at h1
    have hfr : pc_fr σ z.2 pc_0 (fun y => y = o + 6) := pc_fr_tr (pc_fr_mo b2 (fun _ _ h => h) (fun _ _ h => h.elim)) h3
    obtain ⟨-, ⟨v0, v1, v2, v3⟩, hP, hC, hA⟩ := h
    have io : ∀ y, y ≤ o + 6 → cl_i z.2 y = cl_i σ y := fun y hy => (hfr.2 y (by omega)).2.2.1 (fun h => h)
    have r1 : cl_r z.2 (o + 1) = cl_r σ (o + 1) := (hfr.2 (o + 1) (by omega)).2.2.2 (fun h => by have : o + 1 = o + 6 := h; omega)
    refine ⟨z.2, by rw [h1, ← h2], hfr, h4, ⟨by rw [io o (by omega), v0], by rw [io o (by omega), v1], by rw [io o (by omega), v2], by rw [io o (by omega), v3]⟩, fun p hp => ?_, fun c hc => ?_, fun j hj => ?_⟩
    · have hk := hN.2.2.2.1 p hp
      rw [r1, io (o + 2) (by omega)]
      exact ⟨pc_P_fr hfr (fun _ _ h => h.elim) ⟨hk.1, hk.2.1⟩ (hP p hp).1, (hP p hp).2, h5 p hp⟩
    · rw [io (o + 3) (by omega), io (o + 4) (by omega), io (o + 5) (by omega)]
      exact hC c hc
    · refine ⟨?_, h6 j hj⟩
      rw [r1]
      rcases (hA j hj).1 with q | ⟨q1, q2, q3⟩
      · exact Or.inl q
      · have e := (hfr.2 _ q1).1
        have := hfr.1
        exact Or.inr ⟨by omega, by omega, by omega⟩
  · obtain ⟨f1, f2, f3, f4⟩ := hτ
    have hkd := hN.2.2.2.1 i hi
    obtain ⟨-, ⟨v0, v1, v2, v3⟩, hP, -, -⟩ := hM0
    have n0 : o + 6 ≤ cl_n τ0 := by omega
    have io : cl_i τ o = cl_i τ0 o := (f1.2 o (by omega)).2.2.1 (fun h => h)
    have r1 : cl_r τ (o + 1) = cl_r τ0 (o + 1) := (f1.2 (o + 1) (by omega)).2.2.2 (fun h => by have : o + 1 = o + 6 := h; omega)
    have hPi : pc_P τ (cl_r τ (o + 1) i) i (pn_kd N i) := by
      rw [r1]
      exact pc_P_fr f1 (fun _ _ h => h.elim) ⟨hkd.1, hkd.2.1⟩ (hP i hi).1
    have hWall : pc_W τ (cl_n σ + 1) (pn_lo N) (pn_hi N) := pc_W_fr f1 (fun _ _ h => h.elim) b3
    obtain ⟨w, τ2, g1, g2, g3⟩ := pi_dw (by have := f1.1; omega) hPi ⟨hkd.1, hkd.2.1⟩ hWall ⟨hl1, hl3, by omega⟩
    have hs2 : pc_sh τ2 o := pc_sh_fr g2 (fun h => h) f2
    have nr0 : ¬ cl_r τ (o + 1) i = 0 := by have := hPi.1.1; omega
    obtain ⟨⟨c0, c1⟩, k0', ⟨k1, l1, r1'⟩, -, -, -, -, ⟨k6, l6, r6⟩⟩ := f2
    have k62 : cl_k τ2 (o + 6) = 26 := hs2.2.2.2.2.2.2.2.1
    have l62 : cl_l τ2 (o + 6) = 9 := hs2.2.2.2.2.2.2.2.2.1
    have hle : ¬ nI (pn_P N) ≤ nI i := fun h => absurd ((pb_le (by omega) (by omega)).mp h) (by omega)
    have hw : pc_Wp τ2 w N i := by
      unfold pc_Wp
      by_cases h4 : pn_kd N i < 4
      · rw [if_pos h4] at g3 ⊢
        exact g3
      · rw [if_neg h4] at g3 ⊢
        exact g3
    have hwk : w = 0 ∨ (w ≤ cl_n τ2 ∧ cl_k τ2 w = 14) := by
      unfold pc_Wp at hw
      by_cases h4 : pn_kd N i < 4
      · rw [if_pos h4] at hw
        exact Or.inr ⟨hw.1.2, hw.2.1⟩
      · rw [if_neg h4] at hw
        exact Or.inl hw
    have r62 : cl_r τ2 (o + 6) = cl_r τ (o + 6) := (g2.2 (o + 6) (by omega)).2.2.2 (fun h => h)
    have hrun : cl_X2_stirred_L18 o τ (cl_n σ + 1) (nI i) = some (.inl (nI (i + 1), cl_wr τ2 (o + 6) i w)) := by
      unfold cl_X2_stirred_L18
      rw [pb_gdD _ k0', io, v0, if_neg hle, r6, pb_gdD _ (by omega), r1', pb_gdD _ (by omega), pb_gdD _ k1, l1, pn_gdi _ (by omega) (by omega), nI_clamp (by omega), pb_gdD _ nr0, g1, pb_b2, ← nI_succ]
      by_cases hw0 : w = 0
      · rw [if_pos hw0, hw0, pb_gdD _ k62, l62, pn_gdi _ (by omega) (by omega)]
      · rw [if_neg hw0, pb_gdD _ k62, l62, pn_gdi _ (by omega) (by omega), pb_gdD _ (hwk.resolve_left hw0).2, pb_let]
    have h2 := pc_fr_sr τ2 (o + 6) (va_up (cl_r τ2 (o + 6)) i w) (Z := pc_0) (Y := fun y => y = o + 6) rfl
    have hre : cl_r (cl_wr τ2 (o + 6) i w) (o + 6) = va_up (cl_r τ2 (o + 6)) i w := by rw [pc_wr, pc_r_sr, if_pos rfl]
    refine ⟨cl_wr τ2 (o + 6) i w, ⟨pc_fr_tr f1 (pc_fr_tr (pc_fr_mo g2 (fun _ _ h => h) (fun _ _ h => h.elim)) h2), pc_sh_fr h2 (fun h => by have : o = o + 6 := h; omega) hs2, fun p hp => ?_, fun j hj => ?_⟩, hrun⟩
    · rw [hre]
      by_cases hpi : p = i
      · rw [hpi, va_up_self]
        unfold pc_Wp at hw ⊢
        by_cases h4 : pn_kd N i < 4
        · rw [if_pos h4] at hw ⊢
          exact pc_W_fr h2 (fun _ _ h => h.elim) hw
        · rw [if_neg h4] at hw ⊢
          exact hw
      · rw [va_up_ne _ _ hpi, r62]
        have hq := f3 p (by omega)
        unfold pc_Wp at hq ⊢
        by_cases h4 : pn_kd N p < 4
        · rw [if_pos h4] at hq ⊢
          exact pc_W_fr h2 (fun _ _ h => h.elim) (pc_W_fr g2 (fun _ _ h => h.elim) hq)
        · rw [if_neg h4] at hq ⊢
          exact hq
    · rw [hre]
      by_cases hji : j = i
      · rw [hji, va_up_self]
        exact hwk
      · rw [va_up_ne _ _ hji, r62]
        rcases f4 j hj with q | ⟨q1, q2⟩
        · exact Or.inl q
        · have e := (g2.2 _ q1).1
          have := g2.1
          refine Or.inr ⟨?_, ?_⟩
          · show _ ≤ cl_n τ2
            omega
          · show cl_k τ2 _ = 14
            omega
  · obtain ⟨f1, f2, f3, f4⟩ := hτ
    have io : cl_i τ o = cl_i τ0 o := (f1.2 o (by omega)).2.2.1 (fun h => h)
    refine ⟨(o, τ), ?_, rfl, f1, f2, f3, f4⟩
    show cl_X2_stirred_L18 o τ (cl_n σ + 1) (nI (pn_P N)) = _
    unfold cl_X2_stirred_L18
    rw [pb_gdD _ f2.2.1, io, hM0.2.1.1, if_pos ((pb_le (by omega) (by omega)).mpr (Nat.le_refl _))]
    rfl
end PI1
