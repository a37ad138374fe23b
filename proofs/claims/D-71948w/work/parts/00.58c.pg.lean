/-! givers -/
def pg_cn (N : pn_N) (c f p : Nat) : Prop := (pn_a N c = f ∧ pn_b N c = p) ∨ (pn_b N c = f ∧ pn_a N c = p)
def pg_lb (n : Nat) (D E : Nat → Int32) : Prop := ∀ p e, e < n → pb_bt (D p) e = pb_bt (E p) e
theorem pg_px {N : pn_N} {n : Nat} {D E : Nat → Int32} (h : pg_lb n D E) (f : Nat) {d : Nat} (hd : d ≤ n) : pn_px N D f d = pn_px N E f d := by
  unfold pn_px
  rw [Bool.eq_iff_iff, List.any_eq_true, List.any_eq_true]
  constructor
  · rintro ⟨e, he, hb⟩
    rw [h f e (by have := List.mem_range.mp he; omega)] at hb
    exact ⟨e, he, hb⟩
  · rintro ⟨e, he, hb⟩
    rw [← h f e (by have := List.mem_range.mp he; omega)] at hb
    exact ⟨e, he, hb⟩
theorem pg_gv {N : pn_N} (W : pn_W) (f0 t : Nat) {n : Nat} (hn : n < 32) (hf : f0 < 32) : pg_lb n (pn_gv N W f0 t n).1 W.1 ∧ ∀ p f, (pb_bt ((pn_gv N W f0 t n).2 p) f = true ↔ pb_bt (W.2 p) f = true ∨ (p = t ∧ f = f0 ∧ pn_kd N t ≠ 5 ∧ pn_px N W.1 f0 n = true)) := by
  unfold pn_gv
  split
  · rename_i hc
    refine ⟨fun p e he => ?_, fun p f => ?_⟩
    · show pb_bt (upd W.1 t _ p) e = _
      unfold upd
      split
      · rename_i hpt
        rw [pb_or, pb_one' hn, hpt]
        have : ¬ e = n := by omega
        simp [this]
      · rfl
    · show pb_bt (upd W.2 t _ p) f = true ↔ _
      unfold upd
      split
      · rename_i hpt
        rw [pb_or, pb_one' hf, hpt, Bool.or_eq_true, decide_eq_true_iff]
        constructor
        · rintro (h | h)
          · exact Or.inl h
          · exact Or.inr ⟨rfl, h, hc.1, hc.2⟩
        · rintro (h | h)
          · exact Or.inl h
          · exact Or.inr h.2.1
      · rename_i hpt
        constructor
        · intro h; exact Or.inl h
        · rintro (h | h)
          · exact h
          · exact absurd h.1 hpt
  · rename_i hc
    refine ⟨fun _ _ _ => rfl, fun p f => ⟨fun h => Or.inl h, ?_⟩⟩
    rintro (h | h)
    · exact h
    · exact absurd ⟨h.2.2.1, h.2.2.2⟩ hc
theorem pg_fc {N : pn_N} (hN : pn_ok N) (but : Int32) {n : Nat} (hn : n < 32) (W : pn_W) : ∀ c, c ≤ pn_C N → pg_lb n (pn_fc N but n W c).1 W.1 ∧ ∀ p f, (pb_bt ((pn_fc N but n W c).2 p) f = true ↔ pb_bt (W.2 p) f = true ∨ ∃ c', c' < c ∧ pn_d N c' = n ∧ pb_bt but c' = false ∧ pg_cn N c' f p ∧ pn_kd N p ≠ 5 ∧ pn_px N W.1 f n = true) := by
  intro c
  induction c with
  | zero =>
    intro _
    refine ⟨fun _ _ _ => rfl, fun p f => ⟨fun h => Or.inl h, ?_⟩⟩
    rintro (h | ⟨c', h, -⟩)
    · exact h
    · omega
  | succ c ih =>
    intro hc
    obtain ⟨i1, i2⟩ := ih (by omega)
    obtain ⟨c1, c2, c3, -⟩ := hN.2.2.2.2 c (by omega)
    have hP := hN.1
    unfold pn_fc
    generalize pn_fc N but n W c = V at i1 i2
    unfold pn_st
    split
    · rename_i hd
      obtain ⟨a1, a2⟩ := pg_gv (N := N) V (pn_a N c) (pn_b N c) hn (by omega)
      obtain ⟨b1, b2⟩ := pg_gv (N := N) (pn_gv N V (pn_a N c) (pn_b N c) n) (pn_b N c) (pn_a N c) hn (by omega)
      refine ⟨fun p e he => (b1 p e he).trans ((a1 p e he).trans (i1 p e he)), fun p f => ?_⟩
      rw [b2 p f, a2 p f, i2 p f, pg_px a1 _ (Nat.le_refl _), pg_px i1 _ (Nat.le_refl _), pg_px i1 _ (Nat.le_refl _)]
      constructor
      · rintro (((h | ⟨c', h1, h2⟩) | ⟨h1, h2, h3, h4⟩) | ⟨h1, h2, h3, h4⟩)
        · exact Or.inl h
        · exact Or.inr ⟨c', by omega, h2⟩
        · exact Or.inr ⟨c, by omega, hd.1, hd.2, Or.inl ⟨h2.symm, h1.symm⟩, by rw [h1]; exact h3, by rw [h2]; exact h4⟩
        · exact Or.inr ⟨c, by omega, hd.1, hd.2, Or.inr ⟨h2.symm, h1.symm⟩, by rw [h1]; exact h3, by rw [h2]; exact h4⟩
      · rintro (h | ⟨c', h1, h2, h3, h4, h5, h6⟩)
        · exact Or.inl (Or.inl (Or.inl h))
        · by_cases hcc : c' = c
          · rw [hcc] at h4
            rcases h4 with ⟨h4, h7⟩ | ⟨h4, h7⟩
            · exact Or.inl (Or.inr ⟨h7.symm, h4.symm, by rw [h7]; exact h5, by rw [h4]; exact h6⟩)
            · exact Or.inr ⟨h7.symm, h4.symm, by rw [h7]; exact h5, by rw [h4]; exact h6⟩
          · exact Or.inl (Or.inl (Or.inr ⟨c', by omega, h2, h3, h4, h5, h6⟩))
    · rename_i hd
      refine ⟨i1, fun p f => ?_⟩
      rw [i2 p f]
      constructor
      · rintro (h | ⟨c', h1, h2⟩)
        · exact Or.inl h
        · exact Or.inr ⟨c', by omega, h2⟩
      · rintro (h | ⟨c', h1, h2, h3, h4⟩)
        · exact Or.inl h
        · by_cases hcc : c' = c
          · rw [hcc] at h2 h3
            exact absurd ⟨h2, h3⟩ hd
          · exact Or.inr ⟨c', by omega, h2, h3, h4⟩
theorem pg_fd {N : pn_N} (hN : pn_ok N) (but : Int32) (W : pn_W) (hW : ∀ p f, pb_bt (W.2 p) f = false) : ∀ n, n ≤ 31 → ∀ p f, (pb_bt ((pn_fd N but W n).2 p) f = true ↔ ∃ c', c' < pn_C N ∧ pn_d N c' < n ∧ pb_bt but c' = false ∧ pg_cn N c' f p ∧ pn_kd N p ≠ 5 ∧ pn_px N (pn_fd N but W n).1 f (pn_d N c') = true) := by
  intro n
  induction n with
  | zero =>
    intro _ p f
    show pb_bt (W.2 p) f = true ↔ _
    rw [hW p f]
    constructor
    · intro h; cases h
    · rintro ⟨c', h1, h2, -⟩
      omega
  | succ n ih =>
    intro hn p f
    obtain ⟨a1, a2⟩ := pg_fc hN but (by omega : n < 32) (pn_fd N but W n) (pn_C N) (Nat.le_refl _)
    show pb_bt ((pn_fc N but n (pn_fd N but W n) (pn_C N)).2 p) f = true ↔ ∃ c', c' < pn_C N ∧ pn_d N c' < n + 1 ∧ pb_bt but c' = false ∧ pg_cn N c' f p ∧ pn_kd N p ≠ 5 ∧ pn_px N (pn_fc N but n (pn_fd N but W n) (pn_C N)).1 f (pn_d N c') = true
    rw [a2 p f, ih (by omega) p f]
    constructor
    · rintro (⟨c', h1, h2, h3, h4, h5, h6⟩ | ⟨c', h1, h2, h3, h4, h5, h6⟩)
      · exact ⟨c', h1, by omega, h3, h4, h5, by rw [pg_px a1 _ (by omega)]; exact h6⟩
      · exact ⟨c', h1, by omega, h3, h4, h5, by rw [pg_px a1 _ (by omega), h2]; exact h6⟩
    · rintro ⟨c', h1, h2, h3, h4, h5, h6⟩
      rw [pg_px a1 _ (by omega)] at h6
      by_cases hd : pn_d N c' = n
      · rw [hd] at h6
        exact Or.inr ⟨c', h1, hd, h3, h4, h5, h6⟩
      · exact Or.inl ⟨c', h1, by omega, h3, h4, h5, h6⟩
theorem pg_wg {N : pn_N} (hN : pn_ok N) (s d : Nat) {p : Nat} (f : Nat) : pb_bt (pn_wg N s d 0 p) f = true ↔ ∃ c', c' < pn_C N ∧ pg_cn N c' f p ∧ pn_kd N p ≠ 5 ∧ pn_px N (pn_wk N s d 0) f (pn_d N c') = true := by
  have hW : ∀ p f, pb_bt ((pn_w0 (fun _ => 0, fun _ => 0) s d 9).2 p) f = false := by
    have key : ∀ n p, (pn_w0 (fun _ => 0, fun _ => 0) s d n).2 p = 0 := by
      intro n
      induction n with
      | zero => intro p; rfl
      | succ n ih =>
        intro p
        show upd _ n 0 p = 0
        unfold upd
        split
        · rfl
        · exact ih p
    intro p f
    rw [key 9 p, pb_bt0]
  have h := pg_fd hN 0 (pn_w0 (fun _ => 0, fun _ => 0) s d 9) hW 31 (Nat.le_refl _) p f
  unfold pn_wg pn_wk pn_wo
  rw [h]
  constructor
  · rintro ⟨c', h1, h2, h3, h4⟩
    exact ⟨c', h1, h4⟩
  · rintro ⟨c', h1, h4⟩
    exact ⟨c', h1, by have := (hN.2.2.2.2 c' h1).2.2.2; omega, pb_bt0 _, h4⟩
def pg_ot (N : pn_N) (c p : Nat) : Nat := if pn_a N c = p then pn_b N c else pn_a N c
def pg_gg (N : pn_N) (D : Nat → Int32) (p : Nat) : Nat → Int32 → Int32 := fun c s => if (pn_a N c = p ∨ pn_b N c = p) ∧ pn_kd N p ≠ 5 ∧ pn_px N D (pg_ot N c p) (pn_d N c) = true then s ||| ((1 : Int32) <<< (nI (pg_ot N c p) &&& 31)) else s ||| 0
theorem pg_fold {N : pn_N} (hN : pn_ok N) (D : Nat → Int32) (p : Nat) : ∀ c, c ≤ pn_C N → ∀ f, (pb_bt (pb_fold (pg_gg N D p) 0 c) f = true ↔ ∃ c', c' < c ∧ pg_cn N c' f p ∧ pn_kd N p ≠ 5 ∧ pn_px N D f (pn_d N c') = true) := by
  intro c
  induction c with
  | zero =>
    intro _ f
    show pb_bt 0 f = true ↔ _
    rw [pb_bt0]
    constructor
    · intro h; cases h
    · rintro ⟨c', h, -⟩; omega
  | succ c ih =>
    intro hc f
    obtain ⟨c1, c2, c3, -⟩ := hN.2.2.2.2 c (by omega)
    have hP := hN.1
    show pb_bt (pg_gg N D p c (pb_fold (pg_gg N D p) 0 c)) f = true ↔ _
    have ih' := ih (by omega) f
    generalize pb_fold (pg_gg N D p) 0 c = acc at ih'
    unfold pg_gg
    split
    · rename_i hg
      have hot : pg_ot N c p < 32 := by unfold pg_ot; split <;> omega
      have hcn : pg_cn N c (pg_ot N c p) p := by
        unfold pg_cn pg_ot
        rcases hg.1 with e | e
        · rw [if_pos e]; exact Or.inr ⟨rfl, e⟩
        · rw [if_neg (fun h => c3 (h.trans e.symm))]; exact Or.inl ⟨rfl, e⟩
      rw [pb_or, pb_one' hot, Bool.or_eq_true, decide_eq_true_iff, ih']
      constructor
      · rintro (⟨c', h1, h2⟩ | h)
        · exact ⟨c', by omega, h2⟩
        · exact ⟨c, by omega, by rw [h]; exact hcn, hg.2.1, by rw [h]; exact hg.2.2⟩
      · rintro ⟨c', h1, h2, h3⟩
        by_cases hcc : c' = c
        · right
          rw [hcc] at h2
          unfold pg_cn at h2
          unfold pg_ot
          rcases h2 with ⟨e1, e2⟩ | ⟨e1, e2⟩
          · rw [if_neg (fun h => c3 (h.trans e2.symm))]; exact e1.symm
          · rw [if_pos e2]; exact e1.symm
        · exact Or.inl ⟨c', by omega, h2, h3⟩
    · rename_i hg
      rw [pb_or0, ih']
      constructor
      · rintro ⟨c', h1, h2⟩
        exact ⟨c', by omega, h2⟩
      · rintro ⟨c', h1, h2, h3, h4⟩
        by_cases hcc : c' = c
        · refine absurd ?_ hg
          rw [hcc] at h2 h4
          unfold pg_cn at h2
          unfold pg_ot
          rcases h2 with ⟨e1, e2⟩ | ⟨e1, e2⟩
          · rw [if_neg (fun h => c3 (h.trans e2.symm)), e1]; exact ⟨Or.inr e2, h3, h4⟩
          · rw [if_pos e2, e1]; exact ⟨Or.inl e2, h3, h4⟩
        · exact ⟨c', by omega, h2, h3, h4⟩
section PG
variable {σ : cl_S} {μ : mo_S} {S : pa_S}
theorem pg_givers (h : pc_R σ S) (hm : pm_R μ S) (v d w : Int32) : pq_res (cl_X0_givers 19 σ v d w) (mo_givers μ v d w) S := by
  obtain ⟨x0, x3, x5, k0, w1, w2, w3, w4⟩ := pt_cx h
  have hN := h.2.2.1.2
  have hP9 := hN.1
  have hC10 := hN.2.1
  unfold cl_X0_givers mo_givers
  rw [pb_gdD _ x0, pt_cA h, pt_mF hm, pq_mP hm, x5, x3, pb_gdD _ (by decide), pb_gdD _ (by decide), pb_gdD _ w1]
  simp only [pb_b1]
  cases hv : pq_in v 0 (nI (pn_P (pa_net S)) - 1) with
  | false => exact ⟨_, _, _, rfl, rfl, h, hm⟩
  | true =>
    cases hd : pq_in d 0 (nI 30) with
    | false => exact ⟨_, _, _, rfl, rfl, h, hm⟩
    | true =>
      cases hw : pq_in w 0 (nI (pn_P (pa_net S)) - 1) with
      | false => exact ⟨_, _, _, rfl, rfl, h, hm⟩
      | true =>
        obtain ⟨s, hs, rfl⟩ := (pq_lt (by omega)).mp hv
        obtain ⟨e, he, rfl⟩ := (pq_le (by omega)).mp hd
        obtain ⟨p, hp, rfl⟩ := (pq_lt (by omega)).mp hw
        obtain ⟨σ', g1, g2, g3⟩ := pt_go h hs (by omega : e < 31) 0
        obtain ⟨μ', g4, g5, g6⟩ := pt_mw hm hN hs (by omega : e < 31) 0
        obtain ⟨x0, x3, x5, k0, y1, y2, y3, y4⟩ := pt_cx g2
        simp only [Bool.and_self, pb_ibT]
        rw [dx_b2_eq _ g1, dx_b1_eq _ g4, pb_gdD _ (by decide), pn_gdi _ (by omega) (by omega), nI_clamp (by omega), (g6 p (by omega)).2]
        have hval : pn_wg (pa_net S) s e 0 p = pb_fold (pg_gg (pa_net S) (pn_wk (pa_net S) s e 0) p) 0 (pn_C (pa_net S)) := by
          apply pb_ext
          intro k _
          rw [Bool.eq_iff_iff, pg_wg hN, pg_fold hN _ _ _ (Nat.le_refl _)]
        have h31 : ∀ q, q < 9 → ∀ e', 31 ≤ e' → pb_bt (pn_wk (pa_net S) s e 0 q) e' = false := fun q hq e' he' => pn_wk_31 (by omega) 0 hq he'
        have key := pb_lpf (b := fun x : Int32 × Int32 => cl_X0_givers_L34 19 σ' (nI p) x.1 x.2) (pg_gg (pa_net S) (pn_wk (pa_net S) s e 0) p) 0 (pn_C (pa_net S)) (pb_fold (pg_gg (pa_net S) (pn_wk (pa_net S) s e 0) p) 0 (pn_C (pa_net S)), σ') (fun i hi => ?_) ?_ (by omega)
        · rw [key, hval]
          exact ⟨_, _, _, rfl, rfl, g2, g5⟩
        · show cl_X0_givers_L34 19 σ' (nI p) (pb_fold (pg_gg (pa_net S) (pn_wk (pa_net S) s e 0) p) 0 i) (nI i) = _
          have ho := pc_other g2.2.2.1.1 hN hi (p := p) (by omega)
          obtain ⟨c1, c2, c3, c4⟩ := hN.2.2.2.2 i hi
          have hle : ¬ nI (pn_C (pa_net S)) ≤ nI i := fun h => absurd ((pb_le (by omega) (by omega)).mp h) (by omega)
          generalize pb_fold (pg_gg (pa_net S) (pn_wk (pa_net S) s e 0) p) 0 i = acc
          unfold cl_X0_givers_L34
          rw [pb_gdD _ x0, x3, pb_gdD _ (by decide), pb_gdD _ k0, g2.2.2.1.1.2.1.2.1, if_neg hle, pb_gdD _ (by decide), ho, pb_b1, ← nI_succ]
          by_cases hcc : pn_a (pa_net S) i = p ∨ pn_b (pa_net S) i = p
          · have hot : (if pn_a (pa_net S) i = p then nI (pn_b (pa_net S) i) else if pn_b (pa_net S) i = p then nI (pn_a (pa_net S) i) else (-1000000 : Int32)) = nI (pg_ot (pa_net S) i p) := by
              unfold pg_ot
              by_cases e1 : pn_a (pa_net S) i = p
              · rw [if_pos e1, if_pos e1]
              · rw [if_neg e1, if_neg e1, if_pos (hcc.resolve_left e1)]
            have hob : pg_ot (pa_net S) i p < pn_P (pa_net S) := by unfold pg_ot; split <;> omega
            rw [hot, if_neg (pr_nN (by omega)), x5, pb_gdD _ (by decide), pb_gdD _ (by decide), pb_gdD _ y1, y2, pb_gdD _ (by decide), pb_gdD _ y3, y4, pn_gdi _ (by omega) (by omega), nI_clamp (by omega), g3 _ (by omega)]
            have hgv := pc_gives g2.2.2.1.1 hN hi (f := pg_ot (pa_net S) i p) (t := p) (by
              unfold pg_ot
              by_cases e1 : pn_a (pa_net S) i = p
              · rw [if_pos e1]; exact Or.inr ⟨rfl, e1⟩
              · rw [if_neg e1]; exact Or.inl ⟨rfl, hcc.resolve_left e1⟩) (pn_wk (pa_net S) s e 0) (fun e' he' => h31 _ (by omega) e' he')
            rw [hgv, pb_b1]
            unfold pg_gg
            by_cases hg : (pn_a (pa_net S) i = p ∨ pn_b (pa_net S) i = p) ∧ pn_kd (pa_net S) p ≠ 5 ∧ pn_px (pa_net S) (pn_wk (pa_net S) s e 0) (pg_ot (pa_net S) i p) (pn_d (pa_net S) i) = true
            · rw [if_pos hg, decide_eq_true hg.2.1, hg.2.2]
              rfl
            · rw [if_neg hg]
              have : (decide (pn_kd (pa_net S) p ≠ 5) && pn_px (pa_net S) (pn_wk (pa_net S) s e 0) (pg_ot (pa_net S) i p) (pn_d (pa_net S) i)) = false := by
                rw [Bool.eq_false_iff]
                intro h9
                rw [Bool.and_eq_true, decide_eq_true_iff] at h9
                exact hg ⟨hcc, h9⟩
              rw [this]
              rfl
          · have hot : (if pn_a (pa_net S) i = p then nI (pn_b (pa_net S) i) else if pn_b (pa_net S) i = p then nI (pn_a (pa_net S) i) else (-1000000 : Int32)) = -1000000 := by
              rw [if_neg (fun h => hcc (Or.inl h)), if_neg (fun h => hcc (Or.inr h))]
            rw [hot, if_pos rfl]
            unfold pg_gg
            rw [if_neg (fun h => hcc h.1)]
        · show cl_X0_givers_L34 19 σ' (nI p) _ (nI (pn_C (pa_net S))) = _
          unfold cl_X0_givers_L34
          rw [pb_gdD _ x0, x3, pb_gdD _ (by decide), pb_gdD _ k0, g2.2.2.1.1.2.1.2.1, if_pos ((pb_le (by omega) (by omega)).mpr (Nat.le_refl _))]
          rfl
end PG
