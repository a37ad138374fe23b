/-! reading: tokens, both sides -/
/-- a token: where it begins, where it ends, its sort (the Model's), its value -/
abbrev rd_T : Type := Nat × Nat × Nat × Int32
def rd_k (tk : Nat) : Int32 := if tk = 3 ∨ tk = 4 then 3 else if tk = 5 then 4 else nI tk
def rd_v (tk : Nat) (val : Int32) : Int32 := if tk = 0 then -1000000 else if tk = 3 then 44 else if tk = 4 then 59 else val
def rd_g (g : Nat → Int32) (tp : Nat) (T : rd_T) : Prop := g 1 = nI tp ∧ g 2 = nI T.2.1 ∧ g 3 = rd_k T.2.2.1 ∧ g 4 = nI T.1 ∧ g 5 = rd_v T.2.2.1 T.2.2.2
def rd_J (ν : mo_S) (T : rd_T) : Prop := ν.1 4 = nI T.2.1 ∧ ν.1 5 = nI T.1 ∧ ν.1 6 = nI T.2.2.1 ∧ (T.2.2.1 ≠ 0 → ν.1 7 = T.2.2.2)
def rd_K (tp : Nat) (T : rd_T) : Prop := T.1 ≤ T.2.1 ∧ T.2.1 ≤ tp ∧ T.2.2.1 ≤ 5 ∧ (T.2.2.1 ≠ 0 → T.1 < T.2.1) ∧ (T.2.2.1 = 1 → ∃ c, 97 ≤ c ∧ c ≤ 122 ∧ T.2.2.2 = nI c) ∧ (T.2.2.1 = 2 → ∃ n, n < 100 ∧ T.2.2.2 = nI n)
/-- the number of some digits -/
def rd_n (f : Nat → Nat) (a : Nat) : Nat → Nat
  | 0 => 0
  | i + 1 => if i < 2 then 10 * rd_n f a i + (f (a + i) - 48) else rd_n f a i
theorem rd_n_s (f : Nat → Nat) (a i : Nat) : rd_n f a (i + 1) = if i < 2 then 10 * rd_n f a i + (f (a + i) - 48) else rd_n f a i := rfl
theorem rd_n_lt {f : Nat → Nat} {a n : Nat} (h : ∀ i, i < n → f (a + i) ≤ 57) : ∀ i, i ≤ n → rd_n f a i < 100 ∧ (i ≤ 1 → rd_n f a i < 10) := by
  intro i
  induction i with
  | zero => intro _; exact ⟨by show 0 < 100; omega, fun _ => by show 0 < 10; omega⟩
  | succ i ih =>
    intro hi
    obtain ⟨h1, h2⟩ := ih (by omega)
    have h3 := h i (by omega)
    rw [rd_n_s]
    by_cases h0 : i = 0
    · subst h0
      have e0 : rd_n f a 0 = 0 := rfl
      rw [if_pos (by omega), e0]
      exact ⟨by omega, fun _ => by omega⟩
    · by_cases h4 : i < 2
      · have h5 := h2 (by omega)
        rw [if_pos h4]
        exact ⟨by omega, fun h => by omega⟩
      · rw [if_neg h4]
        exact ⟨h1, fun h => by omega⟩
theorem rd_ex (f : Nat → Nat) (tp : Nat) : ∀ m a, tp - a = m → ∃ n, (∀ i, i < n → a + i < tp ∧ 48 ≤ f (a + i) ∧ f (a + i) ≤ 57) ∧ ¬ (a + n < tp ∧ 48 ≤ f (a + n) ∧ f (a + n) ≤ 57) := by
  intro m
  induction m with
  | zero =>
    intro a ha
    exact ⟨0, fun i hi => absurd hi (Nat.not_lt_zero i), by omega⟩
  | succ m ih =>
    intro a ha
    by_cases hd : a < tp ∧ 48 ≤ f a ∧ f a ≤ 57
    · obtain ⟨n, h1, h2⟩ := ih (a + 1) (by omega)
      refine ⟨n + 1, fun i hi => ?_, ?_⟩
      · cases i with
        | zero => exact hd
        | succ i =>
          have := h1 i (by omega)
          rw [show a + 1 + i = a + (i + 1) by omega] at this
          exact this
      · rw [show a + (n + 1) = a + 1 + n by omega]
        exact h2
    · exact ⟨0, fun i hi => absurd hi (Nat.not_lt_zero i), hd⟩
theorem rd_in {c lo hi : Nat} (hc : c < 2 ^ 31) (hl : lo < 2 ^ 31) (hh : hi < 2 ^ 31) : pq_in (nI c) (nI lo) (nI hi) = decide (lo ≤ c ∧ c ≤ hi) := by
  unfold pq_in
  rw [decide_eq_decide, pb_le hl hc, pb_le hc hh]
section RA
variable {θ : cl_S} {ν : mo_S} {r tp : Nat} {f : Nat → Nat}
theorem rd_wi (θ : cl_S) (o : Nat) (g : Nat → Int32) (k : Nat) (v : Int32) : cl_wi (cl_si θ o g) o k v = cl_si θ o (upd g k v) := by
  rw [pc_wi, pc_i_si_s, pc_si_si]
theorem rd_wi0 (θ : cl_S) (o : Nat) (k : Nat) (v : Int32) : cl_wi θ o k v = cl_si θ o (upd (cl_i θ o) k v) := rfl
/-- where the reader's parts lie -/
def rd_H (θ : cl_S) (r tp : Nat) (f : Nat → Nat) : Prop := (cl_k θ r = 7 ∧ cl_r θ r 0 = 29 ∧ r ≠ 29) ∧ (cl_k θ 29 = 21 ∧ cl_l θ 29 = 130) ∧ tp ≤ 130 ∧ ∀ j, j < tp → f j < 256 ∧ cl_i θ 29 j &&& 255 = nI (f j)
def rd_ch (f : Nat → Nat) (tp a : Nat) : Int32 := if a < tp then nI (f a) else -1000000
theorem rd_look (h : rd_H θ r tp f) {g : Nat → Int32} {a : Nat} (h1 : g 1 = nI tp) (h2 : g 2 = nI a) (ha : a ≤ tp) : cl_X7_look r (cl_si θ r g) = some (rd_ch f tp a) := by
  obtain ⟨⟨k, r0, hne⟩, ⟨k29, l29⟩, htp, hf⟩ := h
  have kk : cl_k (cl_si θ r g) r = 7 := k
  have rr : cl_r (cl_si θ r g) r 0 = 29 := r0
  have k2 : cl_k (cl_si θ r g) 29 = 21 := k29
  have l2 : cl_l (cl_si θ r g) 29 = 130 := l29
  unfold cl_X7_look rd_ch
  rw [pb_gdD _ kk, pc_i_si_s, h1, h2, rr]
  by_cases hlt : a < tp
  · rw [if_neg (fun h => absurd ((pb_le (by omega) (by omega)).mp h) (by omega)), if_pos hlt, pb_gdD _ (by decide), pb_gdD _ k2, l2, pn_gdi _ (by omega) (by omega), nI_clamp (by omega), pc_i_si_n _ _ _ _ (Ne.symm hne), (hf a hlt).2]
  · rw [if_pos ((pb_le (by omega) (by omega)).mpr (by omega)), if_neg hlt]
theorem rd_ch_in (h : rd_H θ r tp f) {a : Nat} {lo hi : Nat} (hl : lo < 1000) (hh : hi < 1000) : pq_in (rd_ch f tp a) (nI lo) (nI hi) = decide (a < tp ∧ lo ≤ f a ∧ f a ≤ hi) := by
  unfold rd_ch
  by_cases ha : a < tp
  · have := (h.2.2.2 a ha).1
    rw [if_pos ha, rd_in (by omega) (by omega) (by omega), decide_eq_decide]
    exact ⟨fun h => ⟨ha, h⟩, fun h => h.2⟩
  · rw [if_neg ha, decide_eq_false (fun h => ha h.1)]
    unfold pq_in
    refine decide_eq_false fun hh => ?_
    have h1 := Int32.le_iff_toInt_le.mp hh.1
    rw [nI_toInt (by omega), show (-1000000 : Int32).toInt = -1000000 by decide] at h1
    omega
def rd_bt (f : Nat → Nat) (tp a : Nat) : Int32 := if a < tp then nI (f a) else -1
theorem rd_byte (htp : tp ≤ 130) (m1 : ν.1 1 = nI tp) (mt : ∀ j, j < tp → ν.2 4 j = nI (f j)) {a : Nat} (ha : a ≤ tp) : mo_byteAt ν (nI a) = some (rd_bt f tp a) := by
  unfold mo_byteAt rd_bt
  rw [m1]
  by_cases hlt : a < tp
  · rw [if_neg (fun h => absurd ((pb_le (by omega) (by omega)).mp h) (by omega)), if_pos hlt, pn_gdi _ (by omega) (by omega), nI_clamp (by omega), mt a hlt]
  · rw [if_pos ((pb_le (by omega) (by omega)).mpr (by omega)), if_neg hlt]
theorem rd_bt_in (hf : ∀ j, j < tp → f j < 256) {a : Nat} {lo hi : Nat} (hl : lo < 1000) (hh : hi < 1000) : pq_in (rd_bt f tp a) (nI lo) (nI hi) = decide (a < tp ∧ lo ≤ f a ∧ f a ≤ hi) := by
  unfold rd_bt
  by_cases ha : a < tp
  · have := hf a ha
    rw [if_pos ha, rd_in (by omega) (by omega) (by omega), decide_eq_decide]
    exact ⟨fun h => ⟨ha, h⟩, fun h => h.2⟩
  · rw [if_neg ha, decide_eq_false (fun h => ha h.1)]
    unfold pq_in
    refine decide_eq_false fun hh => ?_
    have h1 := Int32.le_iff_toInt_le.mp hh.1
    rw [nI_toInt (by omega), show (-1 : Int32).toInt = -1 by decide] at h1
    omega
/-- the class's digits -/
theorem rd_cd (h : rd_H θ r tp f) {a n : Nat} (hn : 0 < n) (h1 : ∀ i, i < n → a + i < tp ∧ 48 ≤ f (a + i) ∧ f (a + i) ≤ 57) (h2 : ¬ (a + n < tp ∧ 48 ≤ f (a + n) ∧ f (a + n) ≤ 57)) {g : Nat → Int32} (g1 : g 1 = nI tp) (g2 : g 2 = nI (a + 1)) (g3 : g 3 = 2) (g4 : g 4 = nI a) (g5 : g 5 = nI (rd_n f a 1)) : ∃ g', dx_lp (fun x => cl_X7_next_L122 r x) dx_fu (cl_si θ r g) = some (cl_si θ r g') ∧ g' 1 = nI tp ∧ g' 2 = nI (a + n) ∧ g' 3 = (if n < 3 then 2 else 4) ∧ g' 4 = nI a ∧ g' 5 = nI (rd_n f a n) := by
  have htp := h.2.2.1
  have hlt := rd_n_lt (f := f) (a := a) (n := n) (fun i hi => (h1 i hi).2.2)
  have hlast := h1 (n - 1) (by omega)
  have key := pb_cnti (b := fun x => cl_X7_next_L122 r x) (fun i (g : Nat → Int32) => cl_si θ r g) (fun i g => g 1 = nI tp ∧ g 2 = nI (a + 1 + i) ∧ g 3 = 2 ∧ g 4 = nI a ∧ g 5 = nI (rd_n f a (i + 1))) (n - 1) (fun z => ∃ g', z = cl_si θ r g' ∧ g' 1 = nI tp ∧ g' 2 = nI (a + n) ∧ g' 3 = (if n < 3 then 2 else 4) ∧ g' 4 = nI a ∧ g' 5 = nI (rd_n f a n)) (fun i hi g hg => ?_) (fun g hg => ?_) dx_fu (by unfold dx_fu; omega) g ⟨g1, g2, g3, g4, g5⟩
  · obtain ⟨z, hz, g', rfl, hg'⟩ := key
    exact ⟨g', hz, hg'⟩
  · obtain ⟨a1, a2, a3, a4, a5⟩ := hg
    have kk : ∀ g, cl_k (cl_si θ r g) r = 7 := fun _ => h.1.1
    have hd := h1 (i + 1) (by omega)
    rw [show a + (i + 1) = a + 1 + i by omega] at hd
    have hl := rd_look h a1 a2 (by omega)
    have hin : cl_X0_isIn (rd_ch f tp (a + 1 + i)).toInt64 (48 : Int64) (57 : Int64) = some true := by
      show cl_X0_isIn _ (48 : Int32).toInt64 (57 : Int32).toInt64 = _
      rw [pq_c]
      have := rd_ch_in h (a := a + 1 + i) (lo := 48) (hi := 57) (by omega) (by omega)
      rw [decide_eq_true hd] at this
      exact congrArg some this
    have hch : rd_ch f tp (a + 1 + i) = nI (f (a + 1 + i)) := if_pos hd.1
    have e41 : nI a + (1 : Int32) = nI (a + 1) := (nI_succ a).symm
    have hb := (hlt (i + 1) (by omega)).2
    have fin : ∀ v, cl_X7_next_J175 r (cl_si θ r g) v = some (.inl (cl_si θ r (upd (upd g 5 v) 2 (nI (a + 1 + (i + 1)))))) := by
      intro v
      unfold cl_X7_next_J175
      rw [pb_gdD _ (kk g), rd_wi, pc_i_si_s]
      have : upd g 5 v 2 = nI (a + 1 + i) := a2
      rw [this, pb_let, rd_wi, ← nI_succ]
      rfl
    refine ⟨upd (upd g 5 (nI (rd_n f a (i + 1 + 1)))) 2 (nI (a + 1 + (i + 1))), ⟨a1, rfl, a3, a4, rfl⟩, ?_⟩
    show cl_X7_next_L122 r (cl_si θ r g) = _
    unfold cl_X7_next_L122
    rw [pb_gdD _ (kk g), hl, pb_b1, hin, pb_b1, pb_ibT, pc_i_si_s, a2, a4, e41, pb_b1, hch, a5, rd_n_s f a (i + 1)]
    by_cases h0 : i = 0
    · subst h0
      have e0 : nI (a + 1 + 0) = nI (a + 1) := rfl
      have hb0 := hb (by omega)
      have v : (10 : Int32) * nI (rd_n f a (0 + 1)) + nI (f (a + 1 + 0)) - (48 : Int32) = nI (10 * rd_n f a (0 + 1) + (f (a + (0 + 1)) - 48)) := by
        have c10 : (10 : Int32) = nI 10 := rfl
        have c48 : (48 : Int32) = nI 48 := rfl
        have hf48 := hd.2.1
        rw [c10, c48, pb_mul, pb_add, pb_sub (by omega), show a + (0 + 1) = a + 1 + 0 by omega]
        congr 1
        omega
      rw [if_pos e0, if_pos (by omega), v]
      exact fin _
    · rw [if_neg (fun h => absurd ((pb_inj (by omega) (by omega)).mp h) (by omega)), if_neg (by omega)]
      exact fin _
  · obtain ⟨a1, a2, a3, a4, a5⟩ := hg
    have kk : ∀ g, cl_k (cl_si θ r g) r = 7 := fun _ => h.1.1
    rw [show a + 1 + (n - 1) = a + n by omega] at a2
    rw [show n - 1 + 1 = n by omega] at a5
    have hl := rd_look h a1 a2 (by omega)
    have hin : cl_X0_isIn (rd_ch f tp (a + n)).toInt64 (48 : Int64) (57 : Int64) = some false := by
      show cl_X0_isIn _ (48 : Int32).toInt64 (57 : Int32).toInt64 = _
      rw [pq_c]
      have := rd_ch_in h (a := a + n) (lo := 48) (hi := 57) (by omega) (by omega)
      rw [decide_eq_false h2] at this
      exact congrArg some this
    have esub : nI (a + n) - nI a = nI n := by rw [pb_sub (by omega)]; congr 1; omega
    have c2 : nI n ≤ (2 : Int32) ↔ n ≤ 2 := pb_le (b := 2) (by omega) (by omega)
    refine ⟨cl_si θ r (upd g 3 (if n < 3 then 2 else 4)), ?_, _, rfl, a1, a2, rfl, a4, a5⟩
    show cl_X7_next_L122 r (cl_si θ r g) = _
    unfold cl_X7_next_L122 cl_X7_next_J210
    rw [pb_gdD _ (kk g), hl, pb_b1, hin, pb_b1, pb_ibF, pc_i_si_s, a2, a4, esub, pb_gdD _ (kk g), pb_gdD _ (kk g), rd_wi, rd_wi]
    by_cases h3 : n < 3
    · rw [if_pos (c2.mpr (by omega)), if_pos h3]
      rfl
    · rw [if_neg (fun h => by have := c2.mp h; omega), if_neg h3]
      rfl
/-- the Model's digits -/
theorem rd_md (htp : tp ≤ 130) (hf : ∀ j, j < tp → f j < 256) {a n : Nat} (hn : 0 < n) (h1 : ∀ i, i < n → a + i < tp ∧ 48 ≤ f (a + i) ∧ f (a + i) ≤ 57) (h2 : ¬ (a + n < tp ∧ 48 ≤ f (a + n) ∧ f (a + n) ≤ 57)) (m1 : ν.1 1 = nI tp) (mt : ∀ j, j < tp → ν.2 4 j = nI (f j)) (m4 : ν.1 4 = nI a) (m5 : ν.1 5 = nI a) (m7 : ν.1 7 = 0) : ∃ ν', dx_lp (fun x => mo_advances_L38 x) dx_fu ν = some ν' ∧ ν'.2 = ν.2 ∧ (∀ k, (k < 4 ∨ 7 < k) → ν'.1 k = ν.1 k) ∧ ν'.1 4 = nI (a + n) ∧ ν'.1 5 = nI a ∧ ν'.1 6 = (if n < 3 then 2 else 5) ∧ ν'.1 7 = nI (rd_n f a n) := by
  have hlt := rd_n_lt (f := f) (a := a) (n := n) (fun i hi => (h1 i hi).2.2)
  have hlast := h1 (n - 1) (by omega)
  have key := pb_cnti (b := fun x => mo_advances_L38 x) (fun _ (x : mo_S) => x) (fun i x => x.2 = ν.2 ∧ (∀ k, (k < 4 ∨ 7 < k) → x.1 k = ν.1 k) ∧ x.1 4 = nI (a + i) ∧ x.1 5 = nI a ∧ x.1 7 = nI (rd_n f a i)) n (fun z => z.2 = ν.2 ∧ (∀ k, (k < 4 ∨ 7 < k) → z.1 k = ν.1 k) ∧ z.1 4 = nI (a + n) ∧ z.1 5 = nI a ∧ z.1 6 = (if n < 3 then 2 else 5) ∧ z.1 7 = nI (rd_n f a n)) (fun i hi x hx => ?_) (fun x hx => ?_) dx_fu (by unfold dx_fu; omega) ν ⟨rfl, fun _ _ => rfl, m4, m5, by rw [m7]; exact nI_0.symm⟩
  · exact key
  · obtain ⟨x1, x2, x4, x5, x7⟩ := hx
    have hd := h1 i hi
    have hby := rd_byte (ν := x) (f := f) htp (by rw [x2 1 (by omega)]; exact m1) (fun j hj => by rw [x1]; exact mt j hj) (a := a + i) (by omega)
    have hin : mo_in (rd_bt f tp (a + i)) (48 : Int32) (57 : Int32) = some true := by
      rw [pq_m]
      have := rd_bt_in hf (a := a + i) (lo := 48) (hi := 57) (by omega) (by omega)
      rw [decide_eq_true hd] at this
      exact congrArg some this
    have hch : rd_bt f tp (a + i) = nI (f (a + i)) := if_pos hd.1
    have esub : nI (a + i) - nI a = nI i := by rw [pb_sub (by omega)]; congr 1; omega
    have hb := hlt i (by omega)
    refine ⟨mo_I (mo_I x 7 (nI (rd_n f a (i + 1)))) 4 (nI (a + (i + 1))), ⟨x1, fun k hk => ?_, rfl, x5, rfl⟩, ?_⟩
    · show upd (upd x.1 7 _) 4 _ k = _
      unfold upd
      rw [if_neg (by omega), if_neg (by omega)]
      exact x2 k hk
    · have fin : ∀ v, mo_advances_J96 x v = some (.inl (mo_I (mo_I x 7 v) 4 (nI (a + (i + 1))))) := by
        intro v
        unfold mo_advances_J96
        have : (mo_I x 7 v).1 4 = nI (a + i) := x4
        rw [this, ← nI_succ]
        rfl
      show mo_advances_L38 x = _
      unfold mo_advances_L38
      rw [x4, hby, pb_b1, hin, pb_b1, pb_ibT, x5, esub, pb_b1, hch, x7, rd_n_s]
      have c2 : (2 : Int32) ≤ nI i ↔ 2 ≤ i := pb_le (a := 2) (by omega) (by omega)
      by_cases hi2 : i < 2
      · have v : (10 : Int32) * nI (rd_n f a i) + nI (f (a + i)) - (48 : Int32) = nI (10 * rd_n f a i + (f (a + i) - 48)) := by
          have c10 : (10 : Int32) = nI 10 := rfl
          have c48 : (48 : Int32) = nI 48 := rfl
          have hf48 := hd.2.1
          rw [c10, c48, pb_mul, pb_add, pb_sub (by omega)]
          congr 1
          omega
        rw [if_neg (fun h => by have := c2.mp h; omega), if_pos hi2, v]
        exact fin _
      · rw [if_pos (c2.mpr (by omega)), if_neg hi2]
        exact fin _
  · obtain ⟨x1, x2, x4, x5, x7⟩ := hx
    have hby := rd_byte (ν := x) (f := f) htp (by rw [x2 1 (by omega)]; exact m1) (fun j hj => by rw [x1]; exact mt j hj) (a := a + n) (by omega)
    have hin : mo_in (rd_bt f tp (a + n)) (48 : Int32) (57 : Int32) = some false := by
      rw [pq_m]
      have := rd_bt_in hf (a := a + n) (lo := 48) (hi := 57) (by omega) (by omega)
      rw [decide_eq_false h2] at this
      exact congrArg some this
    have esub : nI (a + n) - nI a = nI n := by rw [pb_sub (by omega)]; congr 1; omega
    have c3 : (3 : Int32) ≤ nI n ↔ 3 ≤ n := pb_le (a := 3) (by omega) (by omega)
    refine ⟨mo_I x 6 (if n < 3 then 2 else 5), ?_, x1, fun k hk => ?_, x4, x5, rfl, x7⟩
    · show mo_advances_L38 x = _
      unfold mo_advances_L38 mo_advances_J131
      rw [x4, hby, pb_b1, hin, pb_b1, pb_ibF, x5, esub]
      by_cases h3 : n < 3
      · rw [if_neg (fun h => by have := c3.mp h; omega), if_pos h3]
        rfl
      · rw [if_pos (c3.mpr (by omega)), if_neg h3]
        rfl
    · show upd x.1 6 _ k = _
      unfold upd
      rw [if_neg (by omega)]
      exact x2 k hk
end RA
