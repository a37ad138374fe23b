/-! reading: the net that is made -/
theorem rc_set {σ τ : cl_S} {o : Nat} {N N' : pn_N} (h : pc_M σ o N) (hf : pc_fr σ τ (pk_Z o) (fun y => y = o + 1)) (e0 : cl_i τ o 0 = nI (pn_P N') ∧ cl_i τ o 1 = nI (pn_C N') ∧ cl_i τ o 2 = nI (pn_lo N') ∧ cl_i τ o 3 = nI (pn_hi N')) (eP : ∀ p, p < pn_P N' → (1 ≤ pn_kd N' p ∧ pn_kd N' p ≤ 5) ∧ pc_P σ (cl_r τ (o + 1) p) p (pn_kd N' p) ∧ cl_i τ (o + 2) p = pn_il N' p) (eC : ∀ c, c < pn_C N' → cl_i τ (o + 3) c = nI (pn_a N' c) ∧ cl_i τ (o + 4) c = nI (pn_b N' c) ∧ cl_i τ (o + 5) c = nI (pn_d N' c)) (ea : ∀ j, j < 9 → cl_r τ (o + 1) j = 0 ∨ (cl_r τ (o + 1) j ≤ cl_n σ ∧ 9 ≤ cl_k σ (cl_r τ (o + 1) j) ∧ cl_k σ (cl_r τ (o + 1) j) ≤ 13)) : pc_M τ o N' := by
  obtain ⟨hs, -, -, -, hA⟩ := h
  have hs0 := hs
  obtain ⟨⟨s0, s1⟩, k0, -, ⟨k2, -⟩, ⟨k3, -⟩, ⟨k4, -⟩, ⟨k5, -⟩, -⟩ := hs
  have hn := hf.1
  have hz : ∀ y, y ≤ cl_n σ → pk_Z o y → ¬ pc_pw σ y := by
    intro y _ hy
    unfold pc_pw
    unfold pk_Z at hy
    have : y = o ∨ y = o + 2 ∨ y = o + 3 ∨ y = o + 4 ∨ y = o + 5 := by omega
    rcases this with rfl | rfl | rfl | rfl | rfl <;> omega
  have r6 : cl_r τ (o + 6) = cl_r σ (o + 6) := (hf.2 (o + 6) (by omega)).2.2.2 (fun h => by have : o + 6 = o + 1 := h; omega)
  refine ⟨pc_sh_fr hf (fun h => by have : o = o + 1 := h; omega) hs0, e0, fun p hp => ?_, eC, fun j hj => ⟨?_, ?_⟩⟩
  · obtain ⟨q1, q2, q3⟩ := eP p hp
    exact ⟨pc_P_fr hf hz q1 q2, q3⟩
  · rcases ea j hj with q | ⟨q1, q2, q3⟩
    · exact Or.inl q
    · have := (hf.2 _ q1).1
      exact Or.inr ⟨by omega, by omega, by omega⟩
  · rw [r6]
    rcases (hA j hj).2 with q | ⟨q1, q2⟩
    · exact Or.inl q
    · have := (hf.2 _ q1).1
      exact Or.inr ⟨by omega, by omega⟩
/-- the reader and its net, made behind σ -/
def rc_G (σ θ : cl_S) (N : pn_N) : Prop := pc_fr σ θ pc_0 pc_0 ∧ cl_n σ + 8 ≤ cl_n θ ∧ (cl_k θ (cl_n σ + 1) = 7 ∧ cl_r θ (cl_n σ + 1) 0 = 29 ∧ cl_r θ (cl_n σ + 1) 6 = cl_n σ + 2) ∧ pc_M θ (cl_n σ + 2) N ∧ pn_ok N ∧ (∀ p, pn_P N ≤ p → p < 9 → cl_i θ (cl_n σ + 4) p = -1)
/-- more persons; more contacts; another ill day; low, high -/
def rc_nP (N : pn_N) (k : Nat) : pn_N := ((pn_P N + 1, pn_C N, pn_lo N, pn_hi N), va_up (pn_kd N) (pn_P N) k, upd (pn_il N) (pn_P N) (-1), pn_a N, pn_b N, pn_d N)
def rc_nC (N : pn_N) (a b d : Nat) : pn_N := ((pn_P N, pn_C N + 1, pn_lo N, pn_hi N), pn_kd N, pn_il N, va_up (pn_a N) (pn_C N) a, va_up (pn_b N) (pn_C N) b, va_up (pn_d N) (pn_C N) d)
def rc_nI (N : pn_N) (p d : Nat) : pn_N := ((pn_P N, pn_C N, pn_lo N, pn_hi N), pn_kd N, upd (pn_il N) p (nI d), pn_a N, pn_b N, pn_d N)
def rc_nL (N : pn_N) (l : Nat) : pn_N := ((pn_P N, pn_C N, l, pn_hi N), pn_kd N, pn_il N, pn_a N, pn_b N, pn_d N)
def rc_nH (N : pn_N) (l : Nat) : pn_N := ((pn_P N, pn_C N, pn_lo N, l), pn_kd N, pn_il N, pn_a N, pn_b N, pn_d N)
def rc_lh (N : pn_N) : Prop := 1 ≤ pn_lo N ∧ pn_lo N ≤ 9 ∧ pn_lo N ≤ pn_hi N ∧ pn_hi N ≤ 20
theorem rc_nP_ok {N : pn_N} {k : Nat} (h : pn_ok N) (hl : rc_lh N) (hP : pn_P N < 9) (hk : 1 ≤ k ∧ k ≤ 5) : pn_ok (rc_nP N k) := by
  obtain ⟨h1, h2, h3, h4, h5⟩ := h
  refine ⟨by show pn_P N + 1 ≤ 9; omega, h2, fun _ => hl, fun p hp => ?_, fun c hc => ?_⟩
  · have hp' : p < pn_P N + 1 := hp
    show 1 ≤ va_up (pn_kd N) (pn_P N) k p ∧ va_up (pn_kd N) (pn_P N) k p ≤ 5 ∧ pn_okI (upd (pn_il N) (pn_P N) (-1) p)
    by_cases hpe : p = pn_P N
    · subst hpe
      rw [va_up_self]
      refine ⟨hk.1, hk.2, ?_⟩
      unfold upd
      rw [if_pos rfl]
      exact Or.inl rfl
    · rw [va_up_ne _ _ hpe]
      unfold upd
      rw [if_neg hpe]
      exact h4 p (by omega)
  · obtain ⟨c1, c2, c3, c4⟩ := h5 c hc
    exact ⟨by show pn_a N c < pn_P N + 1; omega, by show pn_b N c < pn_P N + 1; omega, c3, c4⟩
theorem rc_nC_ok {N : pn_N} {a b d : Nat} (h : pn_ok N) (hC : pn_C N < 10) (h1 : a < pn_P N) (h2 : b < pn_P N) (h3 : a ≠ b) (h4 : d ≤ 30) : pn_ok (rc_nC N a b d) := by
  obtain ⟨k1, k2, k3, k4, k5⟩ := h
  refine ⟨k1, by show pn_C N + 1 ≤ 10; omega, k3, k4, fun c hc => ?_⟩
  have hc' : c < pn_C N + 1 := hc
  show va_up (pn_a N) (pn_C N) a c < pn_P N ∧ va_up (pn_b N) (pn_C N) b c < pn_P N ∧ va_up (pn_a N) (pn_C N) a c ≠ va_up (pn_b N) (pn_C N) b c ∧ va_up (pn_d N) (pn_C N) d c ≤ 30
  by_cases he : c = pn_C N
  · subst he
    rw [va_up_self, va_up_self, va_up_self]
    exact ⟨h1, h2, h3, h4⟩
  · rw [va_up_ne _ _ he, va_up_ne _ _ he, va_up_ne _ _ he]
    exact k5 c (by omega)
theorem rc_nI_ok {N : pn_N} {p d : Nat} (h : pn_ok N) (hd : d ≤ 30) : pn_ok (rc_nI N p d) := by
  obtain ⟨k1, k2, k3, k4, k5⟩ := h
  refine ⟨k1, k2, k3, fun q hq => ?_, k5⟩
  obtain ⟨a1, a2, a3⟩ := k4 q hq
  refine ⟨a1, a2, ?_⟩
  show pn_okI (upd (pn_il N) p (nI d) q)
  unfold upd
  split
  · exact Or.inr ⟨d, hd, rfl⟩
  · exact a3
theorem rc_nL_ok {N : pn_N} {l : Nat} (h : pn_ok N) (hP : pn_P N = 0) : pn_ok (rc_nL N l) ∧ pn_ok (rc_nH N l) := by
  obtain ⟨k1, k2, k3, k4, k5⟩ := h
  exact ⟨⟨k1, k2, fun h => by have : 0 < pn_P N := h; omega, k4, k5⟩, ⟨k1, k2, fun h => by have : 0 < pn_P N := h; omega, k4, k5⟩⟩
section RC
variable {σ θ : cl_S} {N : pn_N}
/-- writes to the reader's numbers -/
theorem rc_G_r (h : rc_G σ θ N) (g : Nat → Int32) : rc_G σ (cl_si θ (cl_n σ + 1) g) N := by
  obtain ⟨h1, h2, ⟨h3, h4, h5⟩, h6, h7, h8⟩ := h
  refine ⟨pc_fr_sin h1 (by omega) g, h2, ⟨h3, h4, h5⟩, pi_M_fr (pc_fr_si θ (cl_n σ + 1) g (Z := fun y => y = cl_n σ + 1) (Y := pc_0) rfl) ⟨fun y _ hz => ?_, fun _ _ h => h.elim⟩ h7 h6, h7, fun p hp hp9 => ?_⟩
  · have hz' : y = cl_n σ + 1 := hz
    refine ⟨by omega, ?_⟩
    unfold pc_pw
    rw [hz', h3]
    omega
  · rw [pc_i_si_n _ _ _ _ (by omega)]
    exact h8 p hp hp9
/-- what is made anew -/
theorem rc_G_fr {θ' : cl_S} (h : rc_G σ θ N) (hf : pc_fr θ θ' pc_0 pc_0) : rc_G σ θ' N := by
  obtain ⟨h1, h2, ⟨h3, h4, h5⟩, h6, h7, h8⟩ := h
  obtain ⟨a1, a2, a3, a4⟩ := hf.2 (cl_n σ + 1) (by omega)
  obtain ⟨b1, b2, b3, b4⟩ := hf.2 (cl_n σ + 4) (by omega)
  have hn := hf.1
  refine ⟨pc_fr_tr h1 hf, by omega, ⟨by rw [a1]; exact h3, by rw [a4 (fun h => h)]; exact h4, by rw [a4 (fun h => h)]; exact h5⟩, pi_M_fr hf ⟨fun _ _ h => h.elim, fun _ _ h => h.elim⟩ h7 h6, h7, fun p hp hp9 => by rw [b3 (fun h => h)]; exact h8 p hp hp9⟩
/-- writes to the net's numbers and persons -/
theorem rc_G_w {τ : cl_S} {N' : pn_N} (h : rc_G σ θ N) (hf : pc_fr θ τ (pk_Z (cl_n σ + 2)) (fun y => y = cl_n σ + 3)) (hM : pc_M τ (cl_n σ + 2) N') (hok : pn_ok N') (h8 : ∀ p, pn_P N' ≤ p → p < 9 → cl_i τ (cl_n σ + 4) p = -1) : rc_G σ τ N' := by
  obtain ⟨h1, h2, ⟨h3, h4, h5⟩, -, -, -⟩ := h
  obtain ⟨a1, a2, a3, a4⟩ := hf.2 (cl_n σ + 1) (by omega)
  have hn := hf.1
  have a4' := a4 (fun h => by have : cl_n σ + 1 = cl_n σ + 3 := h; omega)
  have hσ : pc_fr σ τ pc_0 pc_0 := by
    have h1n := h1.1
    refine ⟨by omega, fun y hy => ?_⟩
    obtain ⟨b1, b2, b3, b4⟩ := h1.2 y hy
    obtain ⟨c1, c2, c3, c4⟩ := hf.2 y (by omega)
    exact ⟨c1.trans b1, c2.trans b2, fun _ => (c3 (fun h => by unfold pk_Z at h; omega)).trans (b3 (fun h => h)), fun _ => (c4 (fun h => by have : y = cl_n σ + 3 := h; omega)).trans (b4 (fun h => h))⟩
  exact ⟨hσ, by omega, ⟨by rw [a1]; exact h3, by rw [a4']; exact h4, by rw [a4']; exact h5⟩, hM, hok, h8⟩
/-- behind the last contact -/
theorem rc_G_c (h : rc_G σ θ N) (j : Nat) (hj : j = 3 ∨ j = 4 ∨ j = 5) (v : Int32) : rc_G σ (cl_wi θ (cl_n σ + 2 + j) (pn_C N) v) N := by
  have h0 := h
  obtain ⟨h1, h2, ⟨h3, h4, h5⟩, h6, h7, h8⟩ := h
  have hf : pc_fr θ (cl_wi θ (cl_n σ + 2 + j) (pn_C N) v) (pk_Z (cl_n σ + 2)) (fun y => y = cl_n σ + 3) := pc_fr_si θ _ _ (by unfold pk_Z; omega)
  have ie : ∀ y, y ≠ cl_n σ + 2 + j → cl_i (cl_wi θ (cl_n σ + 2 + j) (pn_C N) v) y = cl_i θ y := fun y hy => by rw [pc_wi, pc_i_si_n _ _ _ _ hy]
  have iw : ∀ y c, c < pn_C N → cl_i (cl_wi θ (cl_n σ + 2 + j) (pn_C N) v) y c = cl_i θ y c := by
    intro y c hc
    by_cases hy : y = cl_n σ + 2 + j
    · subst hy
      rw [pc_wi, pc_i_si_s]
      unfold upd
      rw [if_neg (by omega)]
    · rw [ie y hy]
  have h60 := h6
  obtain ⟨s, e0, eP, eC, eA⟩ := h6
  refine rc_G_w h0 hf (rc_set (N := N) h60 hf ?_ (fun p hp => ?_) (fun c hc => ?_) (fun k hk => ?_)) h7 (fun p hp hp9 => ?_)
  · rw [ie _ (by omega)]
    exact e0
  · have hk := h7.2.2.2.1 p hp
    rw [ie (cl_n σ + 2 + 2) (by omega)]
    exact ⟨⟨hk.1, hk.2.1⟩, eP p hp⟩
  · rw [iw _ c hc, iw _ c hc, iw _ c hc]
    exact eC c hc
  · exact (eA k hk).1
  · rw [ie (cl_n σ + 4) (by omega)]
    exact h8 p hp hp9
theorem rc_G_nC (h : rc_G σ θ N) {a b d : Nat} (i3 : cl_i θ (cl_n σ + 5) (pn_C N) = nI a) (i4 : cl_i θ (cl_n σ + 6) (pn_C N) = nI b) (i5 : cl_i θ (cl_n σ + 7) (pn_C N) = nI d) (hC : pn_C N < 10) (h1 : a < pn_P N) (h2 : b < pn_P N) (h3 : a ≠ b) (h4 : d ≤ 30) : rc_G σ (cl_wi θ (cl_n σ + 2) 1 (nI (pn_C N + 1))) (rc_nC N a b d) := by
  have h0 := h
  obtain ⟨-, -, -, h6, h7, h8⟩ := h
  have hf : pc_fr θ (cl_wi θ (cl_n σ + 2) 1 (nI (pn_C N + 1))) (pk_Z (cl_n σ + 2)) (fun y => y = cl_n σ + 3) := pc_fr_si θ _ _ (by unfold pk_Z; omega)
  have ie : ∀ y, y ≠ cl_n σ + 2 → cl_i (cl_wi θ (cl_n σ + 2) 1 (nI (pn_C N + 1))) y = cl_i θ y := fun y hy => by rw [pc_wi, pc_i_si_n _ _ _ _ hy]
  have h60 := h6
  obtain ⟨s, ⟨e0, e1, e2, e3⟩, eP, eC, eA⟩ := h6
  refine rc_G_w h0 hf (rc_set (N := N) h60 hf ?_ (fun p hp => ?_) (fun c hc => ?_) (fun k hk => (eA k hk).1)) (rc_nC_ok h7 hC h1 h2 h3 h4) (fun p hp hp9 => ?_)
  · rw [pc_wi, pc_i_si_s]
    exact ⟨e0, rfl, e2, e3⟩
  · have hk := h7.2.2.2.1 p hp
    rw [ie (cl_n σ + 2 + 2) (by omega)]
    exact ⟨⟨hk.1, hk.2.1⟩, eP p hp⟩
  · have hc' : c < pn_C N + 1 := hc
    rw [ie _ (by omega), ie _ (by omega), ie _ (by omega)]
    show cl_i θ (cl_n σ + 2 + 3) c = nI (va_up (pn_a N) (pn_C N) a c) ∧ cl_i θ (cl_n σ + 2 + 4) c = nI (va_up (pn_b N) (pn_C N) b c) ∧ cl_i θ (cl_n σ + 2 + 5) c = nI (va_up (pn_d N) (pn_C N) d c)
    by_cases he : c = pn_C N
    · subst he
      rw [va_up_self, va_up_self, va_up_self]
      exact ⟨i3, i4, i5⟩
    · rw [va_up_ne _ _ he, va_up_ne _ _ he, va_up_ne _ _ he]
      exact eC c (by omega)
  · rw [ie (cl_n σ + 4) (by omega)]
    exact h8 p hp hp9
/-- a person behind the last one -/
theorem rc_G_p (h : rc_G σ θ N) (hP : pn_P N < 9) {q k : Nat} (hk : 1 ≤ k ∧ k ≤ 5) (hq : pc_P θ q (pn_P N) k) : rc_G σ (cl_wr θ (cl_n σ + 3) (pn_P N) q) N := by
  have h0 := h
  obtain ⟨-, -, -, h6, h7, h8⟩ := h
  have hf : pc_fr θ (cl_wr θ (cl_n σ + 3) (pn_P N) q) (pk_Z (cl_n σ + 2)) (fun y => y = cl_n σ + 3) := pc_fr_sr θ _ _ rfl
  have rr : cl_r (cl_wr θ (cl_n σ + 3) (pn_P N) q) (cl_n σ + 2 + 1) = va_up (cl_r θ (cl_n σ + 3)) (pn_P N) q := by
    rw [pc_wr, pc_r_sr, if_pos (by omega)]
  have h60 := h6
  obtain ⟨s, e0, eP, eC, eA⟩ := h6
  refine rc_G_w h0 hf (rc_set (N := N) h60 hf e0 (fun p hp => ?_) eC (fun j hj => ?_)) h7 h8
  · have hk := h7.2.2.2.1 p hp
    rw [rr, va_up_ne _ _ (by omega)]
    exact ⟨⟨hk.1, hk.2.1⟩, eP p hp⟩
  · rw [rr]
    by_cases he : j = pn_P N
    · subst he
      rw [va_up_self]
      obtain ⟨⟨a1, a2⟩, a3, a4⟩ := hq
      exact Or.inr ⟨a2, by omega, by omega⟩
    · rw [va_up_ne _ _ he]
      exact (eA j hj).1
theorem rc_G_nP (h : rc_G σ θ N) (hl : rc_lh N) (hP : pn_P N < 9) {k : Nat} (hk : 1 ≤ k ∧ k ≤ 5) (hq : pc_P θ (cl_r θ (cl_n σ + 3) (pn_P N)) (pn_P N) k) : rc_G σ (cl_wi θ (cl_n σ + 2) 0 (nI (pn_P N + 1))) (rc_nP N k) := by
  have h0 := h
  obtain ⟨-, -, -, h6, h7, h8⟩ := h
  have hf : pc_fr θ (cl_wi θ (cl_n σ + 2) 0 (nI (pn_P N + 1))) (pk_Z (cl_n σ + 2)) (fun y => y = cl_n σ + 3) := pc_fr_si θ _ _ (by unfold pk_Z; omega)
  have ie : ∀ y, y ≠ cl_n σ + 2 → cl_i (cl_wi θ (cl_n σ + 2) 0 (nI (pn_P N + 1))) y = cl_i θ y := fun y hy => by rw [pc_wi, pc_i_si_n _ _ _ _ hy]
  have h60 := h6
  obtain ⟨s, ⟨e0, e1, e2, e3⟩, eP, eC, eA⟩ := h6
  refine rc_G_w h0 hf (rc_set (N := N) h60 hf ?_ (fun p hp => ?_) (fun c hc => ?_) (fun j hj => (eA j hj).1)) (rc_nP_ok h7 hl hP hk) (fun p hp hp9 => ?_)
  · rw [pc_wi, pc_i_si_s]
    exact ⟨rfl, e1, e2, e3⟩
  · have hp' : p < pn_P N + 1 := hp
    rw [ie (cl_n σ + 2 + 2) (by omega)]
    show (1 ≤ va_up (pn_kd N) (pn_P N) k p ∧ va_up (pn_kd N) (pn_P N) k p ≤ 5) ∧ pc_P θ (cl_r θ (cl_n σ + 2 + 1) p) p (va_up (pn_kd N) (pn_P N) k p) ∧ cl_i θ (cl_n σ + 2 + 2) p = upd (pn_il N) (pn_P N) (-1) p
    by_cases he : p = pn_P N
    · subst he
      rw [va_up_self]
      unfold upd
      rw [if_pos rfl]
      exact ⟨hk, hq, h8 _ (Nat.le_refl _) hP⟩
    · have hkp := h7.2.2.2.1 p (by omega)
      rw [va_up_ne _ _ he]
      unfold upd
      rw [if_neg he]
      exact ⟨⟨hkp.1, hkp.2.1⟩, eP p (by omega)⟩
  · rw [ie _ (by omega), ie _ (by omega), ie _ (by omega)]
    exact eC c hc
  · have hp' : pn_P N + 1 ≤ p := hp
    rw [ie (cl_n σ + 4) (by omega)]
    exact h8 p (by omega) hp9
/-- an ill day -/
theorem rc_G_nI (h : rc_G σ θ N) {p d : Nat} (hp : p < pn_P N) (hd : d ≤ 30) : rc_G σ (cl_wi θ (cl_n σ + 4) p (nI d)) (rc_nI N p d) := by
  have h0 := h
  obtain ⟨-, -, -, h6, h7, h8⟩ := h
  have hf : pc_fr θ (cl_wi θ (cl_n σ + 4) p (nI d)) (pk_Z (cl_n σ + 2)) (fun y => y = cl_n σ + 3) := pc_fr_si θ _ _ (by unfold pk_Z; omega)
  have ie : ∀ y, y ≠ cl_n σ + 4 → cl_i (cl_wi θ (cl_n σ + 4) p (nI d)) y = cl_i θ y := fun y hy => by rw [pc_wi, pc_i_si_n _ _ _ _ hy]
  have i4 : cl_i (cl_wi θ (cl_n σ + 4) p (nI d)) (cl_n σ + 4) = upd (cl_i θ (cl_n σ + 4)) p (nI d) := by rw [pc_wi, pc_i_si_s]
  have h60 := h6
  obtain ⟨s, e0, eP, eC, eA⟩ := h6
  refine rc_G_w h0 hf (rc_set (N := N) h60 hf ?_ (fun q hq => ?_) (fun c hc => ?_) (fun j hj => (eA j hj).1)) (rc_nI_ok h7 hd) (fun q hq hq9 => ?_)
  · rw [ie _ (by omega)]
    exact e0
  · have hq' : q < pn_P N := hq
    have hkq := h7.2.2.2.1 q hq'
    refine ⟨⟨hkq.1, hkq.2.1⟩, (eP q hq').1, ?_⟩
    rw [show cl_n σ + 2 + 2 = cl_n σ + 4 by omega, i4]
    show upd (cl_i θ (cl_n σ + 4)) p (nI d) q = upd (pn_il N) p (nI d) q
    unfold upd
    split
    · rfl
    · exact (eP q hq').2
  · rw [ie _ (by omega), ie _ (by omega), ie _ (by omega)]
    exact eC c hc
  · have hq' : pn_P N ≤ q := hq
    rw [i4]
    unfold upd
    rw [if_neg (by omega)]
    exact h8 q hq' hq9
/-- low, high -/
theorem rc_G_nL (h : rc_G σ θ N) (hP : pn_P N = 0) (l : Nat) : rc_G σ (cl_wi θ (cl_n σ + 2) 2 (nI l)) (rc_nL N l) ∧ rc_G σ (cl_wi θ (cl_n σ + 2) 3 (nI l)) (rc_nH N l) := by
  have key : ∀ k, (k = 2 ∨ k = 3) → ∀ N' : pn_N, pn_ok N' → pn_P N' = pn_P N → pn_C N' = pn_C N → pn_a N' = pn_a N → pn_b N' = pn_b N → pn_d N' = pn_d N → (upd (cl_i θ (cl_n σ + 2)) k (nI l) 2 = nI (pn_lo N') ∧ upd (cl_i θ (cl_n σ + 2)) k (nI l) 3 = nI (pn_hi N')) → rc_G σ (cl_wi θ (cl_n σ + 2) k (nI l)) N' := by
    intro k hk N' hok n1 n2 n3 n4 n5 n6
    have h0 := h
    obtain ⟨-, -, -, h6, h7, h8⟩ := h
    have hf : pc_fr θ (cl_wi θ (cl_n σ + 2) k (nI l)) (pk_Z (cl_n σ + 2)) (fun y => y = cl_n σ + 3) := pc_fr_si θ _ _ (by unfold pk_Z; omega)
    have ie : ∀ y, y ≠ cl_n σ + 2 → cl_i (cl_wi θ (cl_n σ + 2) k (nI l)) y = cl_i θ y := fun y hy => by rw [pc_wi, pc_i_si_n _ _ _ _ hy]
    have h60 := h6
    obtain ⟨s, ⟨e0, e1, e2, e3⟩, eP, eC, eA⟩ := h6
    refine rc_G_w h0 hf (rc_set (N := N) h60 hf ?_ (fun q hq => ?_) (fun c hc => ?_) (fun j hj => (eA j hj).1)) hok (fun q hq hq9 => ?_)
    · rw [pc_wi, pc_i_si_s, n1, n2]
      refine ⟨?_, ?_, n6.1, n6.2⟩
      · unfold upd
        rw [if_neg (by omega)]
        exact e0
      · unfold upd
        rw [if_neg (by omega)]
        exact e1
    · rw [n1, hP] at hq
      omega
    · rw [ie _ (by omega), ie _ (by omega), ie _ (by omega), n3, n4, n5]
      exact eC c (by omega)
    · rw [ie (cl_n σ + 4) (by omega)]
      exact h8 q (by omega) hq9
  have hM := h.2.2.2.1
  obtain ⟨s, ⟨e0, e1, e2, e3⟩, -⟩ := hM
  have ok := rc_nL_ok (l := l) h.2.2.2.2.1 hP
  exact ⟨key 2 (Or.inl rfl) _ ok.1 rfl rfl rfl rfl rfl ⟨rfl, e3⟩, key 3 (Or.inr rfl) _ ok.2 rfl rfl rfl rfl rfl ⟨e2, rfl⟩⟩
end RC
