theorem dx_let_e {α β : Type} {e y : α} {k : α → Option β} {z : β} (h : y = e) (hF : dx_let e k = some z) : k y = some z := by rw [h]; exact hF
/-! DatedContacts' side: an abstract heap by numbers (ids): id 0 is null; ids 1 .. cl_K are constants of the start; ids cl_K + 1 .. cl_n are the objects and arrays that were made, in the order of their making; ad: where each lies -/
def cl_rf (ad : Nat → Nat) (r : Nat) : Option Nat := if r = 0 then none else some (ad r)
def cl_ob (ad : Nat → Nat) (η : cl_S) (o : Nat) : List Bool → Nat → List Value
  | [], _ => []
  | true :: bs, k => .int (cl_i η o k) :: cl_ob ad η o bs (k + 1)
  | false :: bs, k => va_rf (cl_rf ad (cl_r η o k)) :: cl_ob ad η o bs (k + 1)
def cl_ce (dA : Nat → ClassId) (ad : Nat → Nat) (η : cl_S) (o : Nat) : va_E :=
  if cl_k η o < 20 then .inr (cl_k η o, cl_ob ad η o (cl_fk (cl_k η o)) 0)
  else if cl_k η o < 24 then .inl (dA (cl_k η o), cl_l η o, .inl (cl_i η o))
  else .inl (dA (cl_k η o), cl_l η o, .inr (.inr (.inr (.inr (fun j => cl_rf ad (cl_r η o j))))))
def cl_ws (dA : Nat → ClassId) (ad : Nat → Nat) (η : cl_S) : va_W := (List.range (cl_n η - cl_K)).map (fun i => (ad (i + 1 + cl_K), cl_ce dA ad η (i + 1 + cl_K)))
theorem cl_ws_at {dA : Nat → ClassId} {ad : Nat → Nat} {η : cl_S} {o : Nat} (h1 : cl_K < o) (h2 : o ≤ cl_n η) : (cl_ws dA ad η)[o - 1 - cl_K]? = some (ad o, cl_ce dA ad η o) := by
  have h : o - 1 - cl_K < cl_n η - cl_K := by omega
  have e : o - 1 - cl_K + 1 + cl_K = o := by omega
  simp [cl_ws, h, e]
theorem cl_ws_set {dA : Nat → ClassId} {ad : Nat → Nat} {η η' : cl_S} {o : Nat} (h1 : cl_K < o) (hn : cl_n η' = cl_n η) (ho : ∀ o', o' ≠ o → cl_ce dA ad η' o' = cl_ce dA ad η o') : (cl_ws dA ad η).set (o - 1 - cl_K) (ad o, cl_ce dA ad η' o) = cl_ws dA ad η' := by
  apply List.ext_getElem?
  intro j
  by_cases hj : j = o - 1 - cl_K
  · subst hj
    by_cases h2 : o - 1 - cl_K < cl_n η - cl_K
    · rw [List.getElem?_set_self (by simpa [cl_ws] using h2)]
      have e : o - 1 - cl_K + 1 + cl_K = o := by omega
      simp [cl_ws, hn, h2, e]
    · rw [List.getElem?_eq_none (by simp [cl_ws]; omega), List.getElem?_eq_none (by simp [cl_ws, hn]; omega)]
  · rw [List.getElem?_set_ne (Ne.symm hj)]
    by_cases h2 : j < cl_n η - cl_K
    · simp [cl_ws, hn, h2, ho (j + 1 + cl_K) (by omega)]
    · simp [cl_ws, hn, h2]
theorem cl_ob_i {ad : Nat → Nat} {η : cl_S} {o : Nat} : ∀ (bs : List Bool) (j k : Nat), bs[k]? = some true → (cl_ob ad η o bs j)[k]? = some (.int (cl_i η o (j + k))) := by
  intro bs
  induction bs with
  | nil => intro j k h; simp at h
  | cons b bs ih =>
    intro j k h
    cases k with
    | zero =>
      simp at h
      subst h
      rfl
    | succ k =>
      have h' : bs[k]? = some true := by simpa using h
      have := ih (j + 1) k h'
      have e : j + 1 + k = j + (k + 1) := by omega
      rw [e] at this
      cases b <;> simpa [cl_ob] using this
theorem cl_ob_r {ad : Nat → Nat} {η : cl_S} {o : Nat} : ∀ (bs : List Bool) (j k : Nat), bs[k]? = some false → (cl_ob ad η o bs j)[k]? = some (va_rf (cl_rf ad (cl_r η o (j + k)))) := by
  intro bs
  induction bs with
  | nil => intro j k h; simp at h
  | cons b bs ih =>
    intro j k h
    cases k with
    | zero =>
      simp at h
      subst h
      rfl
    | succ k =>
      have h' : bs[k]? = some false := by simpa using h
      have := ih (j + 1) k h'
      have e : j + 1 + k = j + (k + 1) := by omega
      rw [e] at this
      cases b <;> simpa [cl_ob] using this
theorem cl_ob_len {ad : Nat → Nat} {η : cl_S} {o : Nat} : ∀ (bs : List Bool) (j : Nat), (cl_ob ad η o bs j).length = bs.length := by
  intro bs
  induction bs with
  | nil => intro j; rfl
  | cons b bs ih => intro j; cases b <;> simp [cl_ob, ih]
theorem cl_ob_congr {ad ad' : Nat → Nat} {η η' : cl_S} {o : Nat} : ∀ (bs : List Bool) (j : Nat), (∀ k, j ≤ k → cl_i η' o k = cl_i η o k) → (∀ k, j ≤ k → cl_rf ad' (cl_r η' o k) = cl_rf ad (cl_r η o k)) → cl_ob ad' η' o bs j = cl_ob ad η o bs j := by
  intro bs
  induction bs with
  | nil => intro j _ _; rfl
  | cons b bs ih =>
    intro j h1 h2
    have := ih (j + 1) (fun k hk => h1 k (by omega)) (fun k hk => h2 k (by omega))
    cases b
    · simp [cl_ob, this, h2 j (Nat.le_refl j)]
    · simp [cl_ob, this, h1 j (Nat.le_refl j)]
theorem cl_ob_wi {ad : Nat → Nat} {η : cl_S} {o : Nat} {v : Int32} : ∀ (bs : List Bool) (j k : Nat), bs[k]? = some true → (cl_ob ad η o bs j).set k (.int v) = cl_ob ad (cl_wi η o (j + k) v) o bs j := by
  intro bs
  induction bs with
  | nil => intro j k h; simp at h
  | cons b bs ih =>
    intro j k h
    cases k with
    | zero =>
      simp at h
      subst h
      have h2 : cl_ob ad (cl_wi η o j v) o bs (j + 1) = cl_ob ad η o bs (j + 1) := by
        refine cl_ob_congr bs (j + 1) (fun k hk => ?_) (fun k hk => rfl)
        have : k ≠ j := by omega
        simp [cl_i, cl_wi, cl_si, va_up, upd, this]
      simp [cl_ob, h2]
      simp [cl_i, cl_wi, cl_si, va_up, upd]
    | succ k =>
      have h' : bs[k]? = some true := by simpa using h
      have h3 := ih (j + 1) k h'
      have e : j + 1 + k = j + (k + 1) := by omega
      rw [e] at h3
      cases b
      · simp [cl_ob, h3]
        rfl
      · simp [cl_ob, h3]
        have : j ≠ j + (k + 1) := by omega
        simp [cl_i, cl_wi, cl_si, va_up, upd, this]
theorem cl_ob_wr {ad : Nat → Nat} {η : cl_S} {o v : Nat} : ∀ (bs : List Bool) (j k : Nat), bs[k]? = some false → (cl_ob ad η o bs j).set k (va_rf (cl_rf ad v)) = cl_ob ad (cl_wr η o (j + k) v) o bs j := by
  intro bs
  induction bs with
  | nil => intro j k h; simp at h
  | cons b bs ih =>
    intro j k h
    cases k with
    | zero =>
      simp at h
      subst h
      have h2 : cl_ob ad (cl_wr η o j v) o bs (j + 1) = cl_ob ad η o bs (j + 1) := by
        refine cl_ob_congr bs (j + 1) (fun k hk => rfl) (fun k hk => ?_)
        have : k ≠ j := by omega
        simp [cl_r, cl_wr, cl_sr, va_up, this]
      simp [cl_ob, h2]
      simp [cl_r, cl_wr, cl_sr, va_up]
    | succ k =>
      have h' : bs[k]? = some false := by simpa using h
      have h3 := ih (j + 1) k h'
      have e : j + 1 + k = j + (k + 1) := by omega
      rw [e] at h3
      cases b
      · simp [cl_ob, h3]
        have : j ≠ j + (k + 1) := by omega
        simp [cl_r, cl_wr, cl_sr, va_up, this]
      · simp [cl_ob, h3]
        rfl
theorem cl_ce_ne_si {dA : Nat → ClassId} {ad : Nat → Nat} {η : cl_S} {o o' : Nat} {f : Nat → Int32} (h : o' ≠ o) : cl_ce dA ad (cl_si η o f) o' = cl_ce dA ad η o' := by
  have e1 : ∀ k, cl_i (cl_si η o f) o' k = cl_i η o' k := fun k => by simp [cl_i, cl_si, va_up, h]
  have e2 : cl_i (cl_si η o f) o' = cl_i η o' := funext e1
  have e3 := cl_ob_congr (ad := ad) (ad' := ad) (η := η) (η' := cl_si η o f) (o := o') (cl_fk (cl_k η o')) 0 (fun k _ => e1 k) (fun _ _ => rfl)
  show (if cl_k η o' < 20 then _ else if cl_k η o' < 24 then Sum.inl (dA (cl_k η o'), cl_l η o', Sum.inl (cl_i (cl_si η o f) o')) else _) = _
  rw [e2]
  unfold cl_ce
  rw [← e3]
  rfl
theorem cl_ce_ne_sr {dA : Nat → ClassId} {ad : Nat → Nat} {η : cl_S} {o o' : Nat} {f : Nat → Nat} (h : o' ≠ o) : cl_ce dA ad (cl_sr η o f) o' = cl_ce dA ad η o' := by
  have e1 : ∀ k, cl_r (cl_sr η o f) o' k = cl_r η o' k := fun k => by simp [cl_r, cl_sr, va_up, h]
  have e2 : cl_r (cl_sr η o f) o' = cl_r η o' := funext e1
  have e3 := cl_ob_congr (ad := ad) (ad' := ad) (η := η) (η' := cl_sr η o f) (o := o') (cl_fk (cl_k η o')) 0 (fun _ _ => rfl) (fun k _ => by rw [e1 k])
  unfold cl_ce
  rw [← e3, e2]
  rfl
/-- with more addresses known, and more objects, the old cells are what they were -/
theorem cl_ce_mono {dA : Nat → ClassId} {ad ad' : Nat → Nat} {η : cl_S} {o n : Nat} (hr : ∀ k, cl_r η o k ≤ n) (h : ∀ q, q ≤ n → ad' q = ad q) : cl_ce dA ad' η o = cl_ce dA ad η o := by
  have e : ∀ k, cl_rf ad' (cl_r η o k) = cl_rf ad (cl_r η o k) := fun k => by unfold cl_rf; rw [h _ (hr k)]
  have e2 : (fun j => cl_rf ad' (cl_r η o j)) = fun j => cl_rf ad (cl_r η o j) := funext e
  unfold cl_ce
  rw [e2, cl_ob_congr (ad := ad) (ad' := ad') (η := η) (η' := η) (cl_fk (cl_k η o)) 0 (fun _ _ => rfl) (fun k _ => e k)]
theorem cl_ce_nw {dA : Nat → ClassId} {ad : Nat → Nat} {η : cl_S} {o c n : Nat} (h : o ≠ cl_n η + 1) : cl_ce dA ad (cl_nw η c n) o = cl_ce dA ad η o := by
  have h' : o ≠ η.1 + 1 := h
  have e0 : cl_k (cl_nw η c n) o = cl_k η o := by simp [cl_k, cl_nw, va_up, h']
  have e1 : cl_i (cl_nw η c n) o = cl_i η o := by funext k; simp [cl_i, cl_nw, va_up, h']
  have e2 : cl_r (cl_nw η c n) o = cl_r η o := by funext k; simp [cl_r, cl_nw, va_up, h']
  have e3 : cl_l (cl_nw η c n) o = cl_l η o := by simp [cl_l, cl_nw, va_up, h']
  unfold cl_ce
  rw [e0, e1, e2, e3, cl_ob_congr (ad := ad) (ad' := ad) (η := η) (η' := cl_nw η c n) (cl_fk (cl_k η o)) 0 (fun k _ => by rw [e1]) (fun k _ => by rw [e2])]
theorem cl_ws_nw {dA : Nat → ClassId} {ad : Nat → Nat} {η : cl_S} {c n q : Nat} {e : va_E} (hK : cl_K ≤ cl_n η) (hr : ∀ o k, cl_r η o k ≤ cl_n η) (he : cl_ce dA (va_up ad (cl_n η + 1) q) (cl_nw η c n) (cl_n η + 1) = e) : cl_ws dA ad η ++ [(q, e)] = cl_ws dA (va_up ad (cl_n η + 1) q) (cl_nw η c n) := by
  have hn : cl_n (cl_nw η c n) - cl_K = (cl_n η - cl_K) + 1 := by show cl_n η + 1 - cl_K = _; omega
  unfold cl_ws
  rw [hn, List.range_succ, List.map_append]
  congr 1
  · apply List.map_congr_left
    intro i hi
    have hi' : i < cl_n η - cl_K := List.mem_range.mp hi
    have h1 : i + 1 + cl_K ≠ cl_n η + 1 := by omega
    rw [va_up_ne _ _ h1, cl_ce_nw h1, cl_ce_mono (n := cl_n η) (hr (i + 1 + cl_K)) (fun x hx => va_up_ne _ _ (by omega))]
  · have e1 : cl_n η - cl_K + 1 + cl_K = cl_n η + 1 := by omega
    simp [e1, va_up_self, he]
