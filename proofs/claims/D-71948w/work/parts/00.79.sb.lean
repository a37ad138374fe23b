/-! fits: the rounds -/
def sb_g (X : Nat → pn_N) (s n : Nat) (f : Nat → Int32) (lo : Nat) : Nat → Int32 → Int32 := fun i a => if sa_so (pn_wk (X (lo + i)) s 0 0) f n = true then a ||| ((1 : Int32) <<< (nI (lo + i) &&& 31)) else a ||| 0
/-- another low; another kind -/
def sb_L (N : pn_N) (v : Nat) : pn_N := ((pn_P N, pn_C N, v, pn_hi N), N.2)
def sb_K (N : pn_N) (p v : Nat) : pn_N := (N.1, va_up (pn_kd N) p v, N.2.2)
theorem sb_Lok {N : pn_N} (hok : pn_ok N) {v : Nat} (h : 1 ≤ v ∧ v ≤ 9 ∧ v ≤ pn_hi N) : pn_ok (sb_L N v) := by
  refine ⟨hok.1, hok.2.1, fun h0 => ?_, hok.2.2.2.1, hok.2.2.2.2⟩
  have := hok.2.2.1 h0
  exact ⟨h.1, h.2.1, h.2.2, this.2.2.2⟩
theorem sb_Kok {N : pn_N} (hok : pn_ok N) {p v : Nat} (h : 1 ≤ v ∧ v ≤ 5) : pn_ok (sb_K N p v) := by
  refine ⟨hok.1, hok.2.1, hok.2.2.1, fun p' hp' => ?_, hok.2.2.2.2⟩
  obtain ⟨u1, u2, u3⟩ := hok.2.2.2.1 p' hp'
  show 1 ≤ va_up (pn_kd N) p v p' ∧ va_up (pn_kd N) p v p' ≤ 5 ∧ _
  unfold va_up
  split
  · exact ⟨h.1, h.2, u3⟩
  · exact ⟨u1, u2, u3⟩
section SB
variable {σ : cl_S} {μ : mo_S} {S : pa_S} {N : pn_N}
/-- the Model's rounds -/
theorem sb_mround (hm : pm_R μ S) {s j n pl lo hi : Nat} {w : Nat → Int32} {X : Nat → pn_N} (hX : ∀ v, lo ≤ v → v ≤ hi → pn_ok (X v) ∧ s < pn_P (X v) ∧ ∀ w' : Nat → Int32, w' pl = nI v → (∀ i, i < 52 → i ≠ pl → w' i = w i) → pn_m w' (X v)) (h0 : ∀ i, i < 52 → i ≠ pl → μ.2 7 i = w i) (hj : j < 8) (hn : n ≤ 9) (hpl : pl < 52) (hlo : lo ≤ hi + 1) (hhi : hi ≤ 31) {lane len : Nat} {f : Nat → Int32} (hr : pa_row S j = some (lane, len, f)) (hlen : n ≤ len) : ∃ μ', dx_lp (fun x : Int32 × Int32 × mo_S => mo_fits_L215 x.2.2 (nI s) (nI j) (nI n) (nI pl) (nI hi) x.1 x.2.1) dx_fu ((0 : Int32), nI lo, μ) = some (pb_fold (sb_g X s n f lo) 0 (hi + 1 - lo), μ') ∧ pm_R μ' (pa_sst S 0) := by
  have key := pb_cntg (b := fun x : Int32 × Int32 × mo_S => mo_fits_L215 x.2.2 (nI s) (nI j) (nI n) (nI pl) (nI hi) x.1 x.2.1) (fun i a τ => (a, nI (lo + i), τ)) (fun τ => pm_R τ S ∧ ∀ i, i < 52 → i ≠ pl → τ.2 7 i = w i) (sb_g X s n f lo) 0 (hi + 1 - lo) (fun z => z.1 = pb_fold (sb_g X s n f lo) 0 (hi + 1 - lo) ∧ pm_R z.2 (pa_sst S 0)) (fun i hi' τ hτ => ?_) (fun τ hτ => ?_) dx_fu (by unfold dx_fu; omega) μ ⟨hm, h0⟩
  · obtain ⟨z, g1, g2, g3⟩ := key
    exact ⟨z.2, by rw [← g2]; exact g1, g3⟩
  · obtain ⟨t1, t2⟩ := hτ
    obtain ⟨a, ha⟩ : ∃ a, a = pb_fold (sb_g X s n f lo) 0 i := ⟨_, rfl⟩
    rw [← ha]
    obtain ⟨x1, x2, x3⟩ := hX (lo + i) (by omega) (by omega)
    have hlt : ¬ nI hi < nI (lo + i) := fun h => absurd ((pb_lt (by omega) (by omega)).mp h) (by omega)
    obtain ⟨ν, hν⟩ : ∃ ν, ν = mo_A τ 7 pl (nI (lo + i)) := ⟨_, rfl⟩
    have hν7 : ν.2 7 = upd (τ.2 7) pl (nI (lo + i)) := by rw [hν, pe_mA]
    have hνR : pm_R ν S := by
      rw [hν]
      refine pm_R_fr (μ := τ) (fun _ _ => rfl) (fun k hk => ?_) t1
      show va_up τ.2 7 (upd (τ.2 7) pl (nI (lo + i))) k = _
      rw [va_up_ne _ _ (by unfold pm_a at hk; omega)]
    have hνw : ∀ i, i < 52 → i ≠ pl → ν.2 7 i = w i := by
      intro k hk hkp
      rw [hν7]
      unfold upd
      rw [if_neg hkp]
      exact t2 k hk hkp
    have hνm : pn_m (ν.2 7) (X (lo + i)) := x3 _ (by rw [hν7]; unfold upd; rw [if_pos rfl]) hνw
    have hwk := pn_m_walks (k0 := 7) (μ := ν) rfl hνm x1 0 x2 (by omega : 0 < 31)
    obtain ⟨κ, hκ⟩ : ∃ κ, κ = pn_mW ν (pn_wo (X (lo + i)) (ν.2 11, ν.2 12) s 0 0) := ⟨_, rfl⟩
    have hκD : ∀ p, p < 9 → κ.2 11 p = pn_wk (X (lo + i)) s 0 0 p := by
      intro p hp
      rw [hκ, pn_mW_D]
      exact (pn_wo_e9 x1 _ s 0 0 hp).1
    have hκR : pm_R κ S := by rw [hκ]; exact pm_R_W _ hνR
    have hκ7 : κ.2 7 = ν.2 7 := by rw [hκ]; exact pn_mW_k (k0 := 7) _ rfl
    rw [← hκ, nI_0] at hwk
    refine ⟨κ, ⟨hκR, by rw [hκ7]; exact hνw⟩, ?_⟩
    show mo_fits_L215 τ (nI s) (nI j) (nI n) (nI pl) (nI hi) a (nI (lo + i)) = _
    unfold mo_fits_L215
    rw [if_neg hlt, pn_gdi _ hpl (by omega), nI_clamp (by omega), ← hν, hwk, pb_b1]
    have hit : ∀ p, p < n → κ.2 2 (40 * j + p) = f p := by
      rcases hκR.2.2.2.1 j hj with ⟨g, -⟩ | ⟨_, _, _, g, u1, u2, u3⟩
      · rw [hr] at g; cases g
      rw [hr] at g
      cases g
      intro p hp
      exact u3 p (by omega)
    have e0 : (true, (0 : Int32)) = (sa_so (pn_wk (X (lo + i)) s 0 0) f 0, nI 0) := rfl
    rw [e0]
    refine pb_lp (b := fun x : Bool × Int32 => mo_fits_L248 κ (nI s) (nI j) (nI n) (nI pl) (nI hi) a (nI (lo + i)) x.1 x.2) n (fun k => (sa_so (pn_wk (X (lo + i)) s 0 0) f k, nI k)) (fun k hk => ?_) ?_ (by omega)
    · show mo_fits_L248 κ (nI s) (nI j) (nI n) (nI pl) (nI hi) a (nI (lo + i)) (sa_so (pn_wk (X (lo + i)) s 0 0) f k) (nI k) = some (.inl (sa_so (pn_wk (X (lo + i)) s 0 0) f (k + 1), nI (k + 1)))
      have hle : ¬ nI n ≤ nI k := fun h => absurd ((pb_le (by omega) (by omega)).mp h) (by omega)
      have e40 : (40 : Int32) * nI j + nI k = nI (40 * j + k) := by
        rw [show (40 : Int32) = nI 40 from rfl, pb_mul, pb_add]
      have hF := rx_Fs (D := pn_wk (X (lo + i)) s 0 0) (p := k) (fun e' he' => pn_wk_31 (by omega) 0 (by omega) he')
      unfold mo_fits_L248
      rw [if_neg hle, pn_gdi _ (by omega) (by omega), nI_clamp (by omega), hκD k (by omega), rw_m hF, pb_b1, e40, pn_gdi _ (by omega) (by omega), nI_clamp (by omega), hit k hk, ← nI_succ, sa_so_s]
      cases sa_so (pn_wk (X (lo + i)) s 0 0) f k with
      | false => rfl
      | true =>
        rw [pb_ibT, Bool.true_and]
        by_cases hq : rx_F (pn_wk (X (lo + i)) s 0 0) k = f k
        · rw [if_pos hq, decide_eq_true hq]
        · rw [if_neg hq, decide_eq_false hq]
    · show mo_fits_L248 κ (nI s) (nI j) (nI n) (nI pl) (nI hi) a (nI (lo + i)) (sa_so (pn_wk (X (lo + i)) s 0 0) f n) (nI n) = _
      unfold mo_fits_L248 sb_g
      rw [if_pos ((pb_le (by omega) (by omega)).mpr (Nat.le_refl _)), ← nI_succ]
      cases sa_so (pn_wk (X (lo + i)) s 0 0) f n with
      | true => rw [pb_ibT, if_pos rfl]; rfl
      | false => rw [pb_ibF, if_neg (by decide)]; rfl
  · obtain ⟨t1, t2⟩ := hτ
    refine ⟨(pb_fold (sb_g X s n f lo) 0 (hi + 1 - lo), mo_I τ 0 0), ?_, rfl, rs_mst t1 0⟩
    show mo_fits_L215 τ (nI s) (nI j) (nI n) (nI pl) (nI hi) (pb_fold (sb_g X s n f lo) 0 (hi + 1 - lo)) (nI (lo + (hi + 1 - lo))) = _
    unfold mo_fits_L215
    rw [if_pos ((pb_lt (by omega) (by omega)).mpr (by omega))]
    rfl
theorem sb_37 (h : pc_R σ S) : cl_k σ 19 = 0 ∧ cl_r σ 19 4 = 30 ∧ cl_r σ 19 5 = 37 ∧ cl_k σ 30 = 2 ∧ cl_i σ 30 3 = nI (pn_hi (pa_net S)) := by
  obtain ⟨⟨-, ⟨x0, -, -, x3, x4, -⟩, -⟩, -, ⟨⟨⟨-, k0, -⟩, ⟨-, -, -, v3⟩, -⟩, -⟩, -⟩ := h
  exact ⟨x0, x3, x4, k0, v3⟩
theorem sb_now (h : pc_R σ S) {o n : Nat} {f : Nat → Int32} (ht : sa_T σ o n f) : ∃ τ, cl_X0_asNow 19 σ = some (37, τ) ∧ pc_R τ S ∧ pc_N τ 37 (pa_net S) ∧ sa_T τ o n f := by
  have s37 := h.1.2.2.2.2.2.2.2.1
  have h' := h
  obtain ⟨τ, b1, b2, b3, b4⟩ := pk_become s37 h.2.2.1.1 h.2.2.1.2 (by omega)
  obtain ⟨⟨-, ⟨x0, -, -, x3, x4, -⟩, -⟩, -⟩ := h
  refine ⟨τ, ?_, pc_R_sc b2 (fun y _ hy => by unfold pk_Z at hy; omega) (fun y _ hy => by unfold pk_Y at hy; omega) h', b3, sa_T_fr b2 (fun y hy => by unfold pk_Z at hy; omega) ht⟩
  unfold cl_X0_asNow
  rw [pb_gdD _ x0, x4, pb_gdD _ (by decide), x3, pb_gdD _ (by decide), pb_gdD _ s37.2.1, b1, pb_b2, pb_gdD _ (by decide)]
theorem sb_ib (b : Bool) (x y : Int32) (s : cl_S) (X : Nat → pn_N) (D f : Nat → Int32) (a : Int32) (v n : Nat) : dx_ib (sa_so D f n) (some (Sum.inl ((a ||| ((1 : Int32) <<< (nI v &&& 31))), (nI v + (1 : Int32)), s))) (some (Sum.inl ((a ||| (0 : Int32)), (nI v + (1 : Int32)), s))) = (some (Sum.inl ((if sa_so D f n = true then a ||| ((1 : Int32) <<< (nI v &&& 31)) else a ||| 0), nI (v + 1), s)) : Option ((Int32 × Int32 × cl_S) ⊕ (Int32 × cl_S))) := by
  rw [← nI_succ]
  cases sa_so D f n with
  | true => rw [pb_ibT, if_pos rfl]
  | false => rw [pb_ibF, if_neg (by decide)]
theorem sb_lows (h : pc_R σ S) {s n o : Nat} {f : Nat → Int32} (hs : s < pn_P (pa_net S)) (hn : n ≤ 9) (ht : sa_T σ o n f) {hi : Nat} (hhi : hi = if pn_hi (pa_net S) < 9 then pn_hi (pa_net S) else 9) : ∃ τ, cl_X0_lowsBy 19 o σ (nI s) = some (pb_fold (sb_g (sb_L (pa_net S)) s n f 1) 0 (hi + 1 - 1), τ) ∧ pc_R τ S := by
  have hN := h.2.2.1.2
  have hP9 := hN.1
  have hb := hN.2.2.1 (by omega)
  have hh9 : hi ≤ 9 ∧ hi ≤ pn_hi (pa_net S) := by rw [hhi]; split <;> omega
  have emin : ∀ τ, pc_R τ S → (if cl_i τ 30 3 < (9 : Int32) then cl_i τ 30 3 else (9 : Int32)) = nI hi := by
    intro τ hτ
    rw [(sb_37 hτ).2.2.2.2, hhi]
    by_cases hlt : pn_hi (pa_net S) < 9
    · have h' : nI (pn_hi (pa_net S)) < (9 : Int32) := (pb_lt (b := 9) (by omega) (by omega)).mpr hlt
      rw [if_pos hlt, if_pos h']
    · have h' : ¬ nI (pn_hi (pa_net S)) < (9 : Int32) := fun h => hlt ((pb_lt (b := 9) (by omega) (by omega)).mp h)
      rw [if_neg hlt, if_neg h']
      rfl
  have key := pb_cntg (b := fun x : Int32 × Int32 × cl_S => cl_X0_lowsBy_L5 19 o x.2.2 (nI s) x.1 x.2.1) (fun i a τ => (a, nI (1 + i), τ)) (fun τ => pc_R τ S ∧ sa_T τ o n f) (sb_g (sb_L (pa_net S)) s n f 1) 0 (hi + 1 - 1) (fun z => z.1 = pb_fold (sb_g (sb_L (pa_net S)) s n f 1) 0 (hi + 1 - 1) ∧ pc_R z.2 S) (fun i hi' τ hτ => ?_) (fun τ hτ => ?_) 10 (by omega) σ ⟨h, ht⟩
  · obtain ⟨z, g1, g2, g3⟩ := key
    exact ⟨z.2, by rw [← g2]; exact g1, g3⟩
  · obtain ⟨t1, t2⟩ := hτ
    obtain ⟨a, ha⟩ : ∃ a, a = pb_fold (sb_g (sb_L (pa_net S)) s n f 1) 0 i := ⟨_, rfl⟩
    rw [← ha]
    obtain ⟨τ1, a1, a2, a3, a4⟩ := sb_now t1 t2
    have hok' : pn_ok (sb_L (pa_net S) (1 + i)) := sb_Lok hN ⟨by omega, by omega, by omega⟩
    have hf := pc_fr_si τ1 37 (upd (cl_i τ1 37) 2 (nI (1 + i))) (Z := fun y => y = 37) (Y := pc_0) rfl
    have hM : pc_M (cl_wi τ1 37 2 (nI (1 + i))) 37 (sb_L (pa_net S) (1 + i)) := by
      refine px_Mset (px_M a3) hN hf ⟨rfl, rfl, rfl⟩ ?_
      obtain ⟨w0, w1, w2, w3⟩ := a3.2.1
      exact ⟨by rw [pc_wi, pc_i_si_s]; exact w0, by rw [pc_wi, pc_i_si_s]; exact w1, by rw [pc_wi, pc_i_si_s]; rfl, by rw [pc_wi, pc_i_si_s]; exact w3⟩
    have hR2 : pc_R (cl_wi τ1 37 2 (nI (1 + i))) S := pc_R_sc hf (fun y _ hy => by have : y = 37 := hy; omega) (fun y _ hy => hy.elim) a2
    have hT2 : sa_T (cl_wi τ1 37 2 (nI (1 + i))) o n f := sa_T_fr hf (fun y hy => by have : y = 37 := hy; omega) a4
    obtain ⟨τ2, hτ2⟩ : ∃ τ2, τ2 = cl_wi τ1 37 2 (nI (1 + i)) := ⟨_, rfl⟩
    rw [← hτ2] at hM hR2 hT2
    obtain ⟨τ3, s1, s2, s3⟩ := pi_stirred hM hok' (by show 0 < pn_P (pa_net S); omega)
    have hR3 : pc_R τ3 S := pc_R_sc s2 (fun y _ hy => hy.elim) (fun y _ hy => by have : y = 37 + 6 := hy; omega) hR2
    have hT3 : sa_T τ3 o n f := sa_T_fr s2 (fun y hy => hy.elim) hT2
    obtain ⟨τ4, c1, c2, c3⟩ := sa_isSo hR3 s3 hok' (s := s) hs hn hT3
    refine ⟨τ4, ⟨c2, c3⟩, ?_⟩
    show cl_X0_lowsBy_L5 19 o τ (nI s) a (nI (1 + i)) = _
    obtain ⟨x0, x3, x4, k0, v3⟩ := sb_37 t1
    obtain ⟨z0, z3, z4, zk0, zv3⟩ := sb_37 hR2
    have hlt : ¬ nI hi < nI (1 + i) := fun h => absurd ((pb_lt (by omega) (by omega)).mp h) (by omega)
    unfold cl_X0_lowsBy_L5
    rw [pb_gdD _ x0, x3, pb_gdD _ (by decide), pb_gdD _ k0, emin τ t1, if_neg hlt, a1, pb_b2, ← hτ2, pb_gdD _ (by decide), pb_gdD _ a3.1.2.1, pb_gdD _ z0, z4, pb_gdD _ (by decide), pb_gdD _ hM.1.2.1, s1, pb_b2, pb_gdD _ (by decide), pb_gdD _ (sb_37 hR3).1, c1, pb_b2]
    exact sb_ib true 0 0 τ4 (sb_L (pa_net S)) _ f a (1 + i) n
  · obtain ⟨t1, t2⟩ := hτ
    refine ⟨(pb_fold (sb_g (sb_L (pa_net S)) s n f 1) 0 (hi + 1 - 1), τ), ?_, rfl, t1⟩
    show cl_X0_lowsBy_L5 19 o τ (nI s) (pb_fold (sb_g (sb_L (pa_net S)) s n f 1) 0 (hi + 1 - 1)) (nI (1 + (hi + 1 - 1))) = _
    obtain ⟨x0, x3, x4, k0, v3⟩ := sb_37 t1
    unfold cl_X0_lowsBy_L5
    rw [pb_gdD _ x0, x3, pb_gdD _ (by decide), pb_gdD _ k0, emin τ t1, if_pos ((pb_lt (by omega) (by omega)).mpr (by omega))]
    rfl
theorem sb_days (h : pc_R σ S) {s n o c : Nat} {f : Nat → Int32} (hs : s < pn_P (pa_net S)) (hc : c < pn_C (pa_net S)) (hn : n ≤ 9) (ht : sa_T σ o n f) : ∃ τ, cl_X0_daysBy 19 o σ (nI s) (nI c) = some (pb_fold (sb_g (ry_D (pa_net S) c) s n f 0) 0 (30 + 1 - 0), τ) ∧ pc_R τ S := by
  have hN := h.2.2.1.2
  have hC10 := hN.2.1
  have key := pb_cntg (b := fun x : Int32 × Int32 × cl_S => cl_X0_daysBy_L6 19 o x.2.2 (nI s) (nI c) x.1 x.2.1) (fun i a τ => (a, nI (0 + i), τ)) (fun τ => pc_R τ S ∧ sa_T τ o n f) (sb_g (ry_D (pa_net S) c) s n f 0) 0 (30 + 1 - 0) (fun z => z.1 = pb_fold (sb_g (ry_D (pa_net S) c) s n f 0) 0 (30 + 1 - 0) ∧ pc_R z.2 S) (fun i hi' τ hτ => ?_) (fun τ hτ => ?_) dx_fu (by unfold dx_fu; omega) σ ⟨h, ht⟩
  · obtain ⟨z, g1, g2, g3⟩ := key
    exact ⟨z.2, by rw [← g2]; exact g1, g3⟩
  · obtain ⟨t1, t2⟩ := hτ
    obtain ⟨a, ha⟩ : ∃ a, a = pb_fold (sb_g (ry_D (pa_net S) c) s n f 0) 0 i := ⟨_, rfl⟩
    rw [← ha]
    obtain ⟨τ1, a1, a2, a3, a4⟩ := sb_now t1 t2
    have hok' : pn_ok (ry_D (pa_net S) c (0 + i)) := ry_Dok hN (by omega)
    obtain ⟨d1, d2⟩ := ry_cD a2 a3 hN c (0 + i)
    have hf := pc_fr_si τ1 42 (upd (cl_i τ1 42) c (nI (0 + i))) (Z := fun y => y = 42) (Y := pc_0) rfl
    have hT2 : sa_T (cl_wi τ1 42 c (nI (0 + i))) o n f := sa_T_fr hf (fun y hy => by have : y = 42 := hy; omega) a4
    obtain ⟨τ2, hτ2⟩ : ∃ τ2, τ2 = cl_wi τ1 42 c (nI (0 + i)) := ⟨_, rfl⟩
    rw [← hτ2] at d1 d2 hT2
    obtain ⟨τ4, c1, c2, c3⟩ := sa_isSo d1 d2 hok' (s := s) hs hn hT2
    refine ⟨τ4, ⟨c2, c3⟩, ?_⟩
    show cl_X0_daysBy_L6 19 o τ (nI s) (nI c) a (nI (0 + i)) = _
    obtain ⟨x0, x3, x4, k0, v3⟩ := sb_37 t1
    obtain ⟨z0, z3, z4, zk0, zv3⟩ := sb_37 d1
    have hlt : ¬ (31 : Int32) ≤ nI (0 + i) := fun h => absurd ((pb_le (a := 31) (by omega) (by omega)).mp h) (by omega)
    have r8 : cl_r τ1 37 8 = 42 := a3.1.2.2.2.2.2.2.1.2.2
    have k42 : cl_k τ1 42 = 20 := a3.1.2.2.2.2.2.2.1.1
    have l42 : cl_l τ1 42 = 10 := a3.1.2.2.2.2.2.2.1.2.1
    unfold cl_X0_daysBy_L6
    rw [if_neg hlt, pb_gdD _ x0, a1, pb_b2, pb_gdD _ (by decide), pb_gdD _ a3.1.2.1, r8, pb_gdD _ (by decide), pb_gdD _ k42, l42, pn_gdi _ (by omega) (by omega), nI_clamp (by omega), ← hτ2, pb_gdD _ z0, z4, pb_gdD _ (by decide), c1, pb_b2]
    exact sb_ib true 0 0 τ4 (ry_D (pa_net S) c) _ f a (0 + i) n
  · obtain ⟨t1, t2⟩ := hτ
    refine ⟨(pb_fold (sb_g (ry_D (pa_net S) c) s n f 0) 0 (30 + 1 - 0), τ), ?_, rfl, t1⟩
    show cl_X0_daysBy_L6 19 o τ (nI s) (nI c) (pb_fold (sb_g (ry_D (pa_net S) c) s n f 0) 0 (30 + 1 - 0)) (nI (0 + (30 + 1 - 0))) = _
    unfold cl_X0_daysBy_L6
    rw [if_pos (by decide)]
    rfl
/-- a person of the other net is of another kind -/
theorem sb_kind (h : pc_R σ S) (hN : pc_N σ 37 N) (hok : pn_ok N) {p k : Nat} (hp : p < pn_P N) (hk : 1 ≤ k ∧ k ≤ 5) : ∃ τ, cl_X0_personBy σ (nI k) (nI p) = some (cl_n σ + 1, τ) ∧ cl_k τ 38 = 25 ∧ cl_l τ 38 = 9 ∧ (9 ≤ cl_k τ (cl_n σ + 1) ∧ cl_k τ (cl_n σ + 1) ≤ 13) ∧ pc_R (cl_wr τ 38 p (cl_n σ + 1)) S ∧ pc_M (cl_wr τ 38 p (cl_n σ + 1)) 37 (sb_K N p k) ∧ pc_fr σ (cl_wr τ 38 p (cl_n σ + 1)) pc_0 (fun y => y = 38) := by
  have hn54 := h.1.1
  have hP9 := hok.1
  obtain ⟨τ, t1, t2, t3, t4⟩ := px_by σ (by unfold cl_K; omega) (k := k) (p := p) hk
  have k31 : cl_k τ 38 = 25 := by rw [(t2.2 38 (by omega)).1]; exact hN.1.2.2.1.1
  have l31 : cl_l τ 38 = 9 := by rw [(t2.2 38 (by omega)).2.1]; exact hN.1.2.2.1.2.1
  have hkn : 9 ≤ cl_k τ (cl_n σ + 1) ∧ cl_k τ (cl_n σ + 1) ≤ 13 := by rw [t3.2.1]; omega
  obtain ⟨τ1, hτ1⟩ : ∃ τ1, τ1 = cl_wr τ 38 p (cl_n σ + 1) := ⟨_, rfl⟩
  have h2 : pc_fr τ τ1 pc_0 (fun y => y = 38) := by rw [hτ1]; exact pc_fr_sr _ _ _ rfl
  have hM0 : pc_M τ 37 N := pi_M_fr t2 ⟨fun _ _ h => h.elim, fun _ _ h => h.elim⟩ hok (px_M hN)
  have r31 : cl_r τ1 38 = va_up (cl_r τ 38) p (cl_n σ + 1) := by rw [hτ1, pc_wr, pc_r_sr, if_pos rfl]
  have hM : pc_M τ1 37 (sb_K N p k) := by
    obtain ⟨hs, v0, hP, hC, hA⟩ := hM0
    have rr : cl_r τ1 43 = cl_r τ 43 := (h2.2 43 (by omega)).2.2.2 (fun h => by have : (43 : Nat) = 38 := h; omega)
    have ii : ∀ y, cl_i τ1 y = cl_i τ y := by intro y; rw [hτ1]; rfl
    have kk : ∀ y, cl_k τ1 y = cl_k τ y := by intro y; rw [hτ1]; rfl
    have nn : cl_n τ1 = cl_n τ := by rw [hτ1]; rfl
    refine ⟨pc_sh_fr h2 (fun h => by have : (37 : Nat) = 38 := h; omega) hs, by rw [ii]; exact v0, fun p' hp' => ?_, fun c hc => by rw [ii, ii, ii]; exact hC c hc, fun j hj => ?_⟩
    · show pc_P τ1 (cl_r τ1 38 p') p' (va_up (pn_kd N) p k p') ∧ _
      rw [r31, ii]
      have hp2 : p' < pn_P N := hp'
      by_cases hpp : p' = p
      · rw [hpp, va_up_self, va_up_self]
        exact ⟨pc_P_fr h2 (fun _ _ h => h.elim) hk t3, (hP p hp).2⟩
      · rw [va_up_ne _ _ hpp, va_up_ne _ _ hpp]
        have hkk := hok.2.2.2.1 p' hp2
        exact ⟨pc_P_fr h2 (fun _ _ h => h.elim) ⟨hkk.1, hkk.2.1⟩ (hP p' hp2).1, (hP p' hp2).2⟩
    · have := hA j hj
      show (cl_r τ1 38 j = 0 ∨ _) ∧ (cl_r τ1 43 j = 0 ∨ _)
      have hA1 : (cl_r τ 38 j = 0 ∨ cl_r τ 38 j ≤ cl_n τ ∧ 9 ≤ cl_k τ (cl_r τ 38 j) ∧ cl_k τ (cl_r τ 38 j) ≤ 13) ∧ (cl_r τ 43 j = 0 ∨ cl_r τ 43 j ≤ cl_n τ ∧ cl_k τ (cl_r τ 43 j) = 14) := this
      refine ⟨?_, ?_⟩
      · show _ ∨ (cl_r τ1 38 j ≤ cl_n τ1 ∧ 9 ≤ cl_k τ1 (cl_r τ1 38 j) ∧ cl_k τ1 (cl_r τ1 38 j) ≤ 13)
        rw [r31, nn, kk]
        by_cases hjp : j = p
        · rw [hjp, va_up_self]
          exact Or.inr ⟨by omega, hkn.1, hkn.2⟩
        · rw [va_up_ne _ _ hjp]
          exact hA1.1
      · show _ ∨ (cl_r τ1 43 j ≤ cl_n τ1 ∧ cl_k τ1 (cl_r τ1 43 j) = 14)
        rw [rr, nn, kk]
        exact hA1.2
  have hfr : pc_fr σ τ1 pc_0 (fun y => y = 38) := pc_fr_tr (pc_fr_mo t2 (fun _ _ h => h.elim) (fun _ _ h => h.elim)) h2
  have hR : pc_R τ1 S := pc_R_sc hfr (fun y _ hy => hy.elim) (fun y _ hy => by have : y = 38 := hy; omega) h
  rw [hτ1] at hM hfr hR
  exact ⟨τ, t1, k31, l31, hkn, hR, hM, hfr⟩
theorem sb_kinds (h : pc_R σ S) {s n o p : Nat} {f : Nat → Int32} (hs : s < pn_P (pa_net S)) (hp : p < pn_P (pa_net S)) (hn : n ≤ 9) (ht : sa_T σ o n f) : ∃ τ, cl_X0_kindsBy 19 o σ (nI s) (nI p) = some (pb_fold (sb_g (sb_K (pa_net S) p) s n f 1) 0 (5 + 1 - 1), τ) ∧ pc_R τ S := by
  have hN := h.2.2.1.2
  have hP9 := hN.1
  have key := pb_cntg (b := fun x : Int32 × Int32 × cl_S => cl_X0_kindsBy_L6 19 o x.2.2 (nI s) (nI p) x.1 x.2.1) (fun i a τ => (a, nI (1 + i), τ)) (fun τ => pc_R τ S ∧ sa_T τ o n f) (sb_g (sb_K (pa_net S) p) s n f 1) 0 (5 + 1 - 1) (fun z => z.1 = pb_fold (sb_g (sb_K (pa_net S) p) s n f 1) 0 (5 + 1 - 1) ∧ pc_R z.2 S) (fun i hi' τ hτ => ?_) (fun τ hτ => ?_) 6 (by omega) σ ⟨h, ht⟩
  · obtain ⟨z, g1, g2, g3⟩ := key
    exact ⟨z.2, by rw [← g2]; exact g1, g3⟩
  · obtain ⟨t1, t2⟩ := hτ
    obtain ⟨a, ha⟩ : ∃ a, a = pb_fold (sb_g (sb_K (pa_net S) p) s n f 1) 0 i := ⟨_, rfl⟩
    rw [← ha]
    obtain ⟨τ1, a1, a2, a3, a4⟩ := sb_now t1 t2
    have hok' : pn_ok (sb_K (pa_net S) p (1 + i)) := sb_Kok hN ⟨by omega, by omega⟩
    obtain ⟨κ, p1, p2, p3, p4, p5, p6, p7⟩ := sb_kind a2 a3 hN hp (k := 1 + i) ⟨by omega, by omega⟩
    have hT2 : sa_T (cl_wr κ 38 p (cl_n τ1 + 1)) o n f := sa_T_fr p7 (fun y hy => hy.elim) a4
    obtain ⟨τ2, hτ2⟩ : ∃ τ2, τ2 = cl_wr κ 38 p (cl_n τ1 + 1) := ⟨_, rfl⟩
    rw [← hτ2] at p5 p6 hT2
    obtain ⟨τ3, s1, s2, s3⟩ := pi_stirred p6 hok' (by show 0 < pn_P (pa_net S); omega)
    have hR3 : pc_R τ3 S := pc_R_sc s2 (fun y _ hy => hy.elim) (fun y _ hy => by have : y = 37 + 6 := hy; omega) p5
    have hT3 : sa_T τ3 o n f := sa_T_fr s2 (fun y hy => hy.elim) hT2
    obtain ⟨τ4, c1, c2, c3⟩ := sa_isSo hR3 s3 hok' (s := s) hs hn hT3
    refine ⟨τ4, ⟨c2, c3⟩, ?_⟩
    show cl_X0_kindsBy_L6 19 o τ (nI s) (nI p) a (nI (1 + i)) = _
    obtain ⟨x0, x3, x4, k0, v3⟩ := sb_37 t1
    obtain ⟨z0, z3, z4, zk0, zv3⟩ := sb_37 p5
    have hlt : ¬ (5 : Int32) < nI (1 + i) := fun h => absurd ((pb_lt (a := 5) (by omega) (by omega)).mp h) (by omega)
    have r4 : cl_r τ1 37 4 = 38 := a3.1.2.2.1.2.2
    unfold cl_X0_kindsBy_L6
    rw [if_neg hlt, pb_gdD _ x0, a1, pb_b2, pb_gdD _ (by decide), pb_gdD _ a3.1.2.1, r4, pb_gdD _ (by decide), p1, pb_b2, pb_gdD _ (by omega), pb_gdD _ p2, p3, pn_gdi _ (by omega) (by omega), nI_clamp (by omega), pb_gdD _ p4, ← hτ2, pb_gdD _ z0, z4, pb_gdD _ (by decide), pb_gdD _ p6.1.2.1, s1, pb_b2, pb_gdD _ (by decide), pb_gdD _ (sb_37 hR3).1, c1, pb_b2]
    exact sb_ib true 0 0 τ4 (sb_K (pa_net S) p) _ f a (1 + i) n
  · obtain ⟨t1, t2⟩ := hτ
    refine ⟨(pb_fold (sb_g (sb_K (pa_net S) p) s n f 1) 0 (5 + 1 - 1), τ), ?_, rfl, t1⟩
    show cl_X0_kindsBy_L6 19 o τ (nI s) (nI p) (pb_fold (sb_g (sb_K (pa_net S) p) s n f 1) 0 (5 + 1 - 1)) (nI (1 + (5 + 1 - 1))) = _
    unfold cl_X0_kindsBy_L6
    rw [if_pos (by decide)]
    rfl
end SB
