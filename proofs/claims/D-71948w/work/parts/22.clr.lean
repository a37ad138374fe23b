/-! rows over the abstract heap -/
abbrev cl_ty (dA : Nat → ClassId) : List (ClassId × FieldType) := [(dA 20, .int), (dA 21, .byte), (dA 22, .short), (dA 24, .object RX1), (dA 25, .object RX10), (dA 26, .object RX17), (dA 27, .object RX2)]
theorem cl_Kk {η : cl_S} {o ci : Nat} (h : cl_Z η) (h1 : 1 ≤ o) (hk : cl_k η o = ci) (hc : cl_ck ci = false) : cl_K < o := by
  by_cases h2 : o ≤ cl_K
  · have h3 := (h.2.2.2 o h1 h2).1
    rw [hk] at h3
    subst h3
    unfold cl_c0k at hc
    split at hc <;> cases hc
  · omega
theorem cl_Kc {η : cl_S} {o ci : Nat} (h : cl_Z η) (hk : cl_k η o = ci) (hc : cl_ck ci = true) : o ≤ cl_K := by
  by_cases h2 : cl_K < o
  · have h3 := h.2.2.1 o h2
    rw [hk, hc] at h3
    cases h3
  · omega
theorem cl_ck_ob {ci : Nat} {q : vw_C} (h : vwCl[ci]? = some q) : cl_ck ci = false := by
  have h1 : ci < 18 := (List.getElem?_eq_some_iff.mp h).1
  have h2 : ci ≠ 18 := by omega
  have h3 : ci ≠ 23 := by omega
  simp [cl_ck, h2, h3]
theorem cl_ck_24 {ct : Nat} (h : ¬ ct < 24) : cl_ck ct = false := by
  have h2 : ct ≠ 18 := by omega
  have h3 : ct ≠ 23 := by omega
  simp [cl_ck, h2, h3]
/-- the world: B = (ad at the method's start, how many objects there were then) -/
def cl_V (D : va_G) (dA : Nat → ClassId) (B : (Nat → Nat) × Nat) (ad : Nat → Nat) (A : Nat → Prop) (H0 : Heap) (η : cl_S) (s : State) (H : Heap) (locs : List Loc) : Prop :=
  cl_N B A H0 s ∧ va_K D vwCl (cl_ty dA) s ∧ va_P D vwCl (cl_ws dA ad η) H ∧ va_D A (cl_ws dA ad η) ∧ va_S A H0 H locs ∧ (∀ q, H0.size ≤ q → A q) ∧ cl_Z η ∧ (∀ o, o ≤ B.2 → ad o = B.1 o) ∧ B.2 ≤ cl_n η
/-- a is where the object o lies -/
def cl_at (ad : Nat → Nat) (η : cl_S) (a o : Nat) : Prop := a = ad o ∧ 1 ≤ o ∧ o ≤ cl_n η
theorem cl_at.mv {ad ad' : Nat → Nat} {η η' : cl_S} {a o : Nat} (h : cl_at ad η a o) (h1 : ∀ q, q ≤ cl_n η → ad' q = ad q) (h2 : cl_n η ≤ cl_n η') : cl_at ad' η' a o := ⟨by rw [h.1, h1 _ h.2.2], h.2.1, Nat.le_trans h.2.2 h2⟩
theorem cl_at.nw {ad ad' : Nat → Nat} {η : cl_S} {a o : Nat} (c n : Nat) (h : cl_at ad η a o) (h1 : ∀ q, q ≤ cl_n η → ad' q = ad q) : cl_at ad' (cl_nw η c n) a o := h.mv h1 (Nat.le_succ _)
theorem cl_ce_ob {dA : Nat → ClassId} {ad : Nat → Nat} {η : cl_S} {o ci : Nat} (hk : cl_k η o = ci) (h : ci < 20) : cl_ce dA ad η o = .inr (ci, cl_ob ad η o (cl_fk ci) 0) := by
  unfold cl_ce
  rw [hk, if_pos h]
theorem cl_ce_ia {dA : Nat → ClassId} {ad : Nat → Nat} {η : cl_S} {o ci : Nat} (hk : cl_k η o = ci) (h : ¬ ci < 20) (h2 : ci < 24) : cl_ce dA ad η o = .inl (dA ci, cl_l η o, .inl (cl_i η o)) := by
  unfold cl_ce
  rw [hk, if_neg h, if_pos h2]
theorem cl_ce_ra {dA : Nat → ClassId} {ad : Nat → Nat} {η : cl_S} {o ci : Nat} (hk : cl_k η o = ci) (h : ¬ ci < 24) : cl_ce dA ad η o = .inl (dA ci, cl_l η o, .inr (.inr (.inr (.inr (fun j => cl_rf ad (cl_r η o j)))))) := by
  unfold cl_ce
  rw [hk, if_neg (by omega), if_neg h]
theorem cl_rf_s {ad : Nat → Nat} {r : Nat} (h : ¬ r = 0) : cl_rf ad r = some (ad r) := if_neg h
theorem cl_rf_n {ad : Nat → Nat} {r : Nat} (h : r = 0) : cl_rf ad r = none := if_pos h
theorem cl_Z_of {η η' : cl_S} {o : Nat} (h : cl_Z η) (ho : cl_K < o) (hn : cl_n η' = cl_n η) (hk : ∀ o', cl_k η' o' = cl_k η o') (hl : ∀ o', cl_l η' o' = cl_l η o') (hi : ∀ o', o' ≠ o → cl_i η' o' = cl_i η o') (hr : ∀ o', o' ≠ o → cl_r η' o' = cl_r η o') (hr2 : ∀ k, cl_r η' o k ≤ cl_n η) : cl_Z η' := by
  refine ⟨fun o' k => ?_, by rw [hn]; exact h.2.1, fun o' h' => by rw [hk]; exact h.2.2.1 o' h', fun o' h1 h2 => ?_⟩
  · rw [hn]
    by_cases h1 : o' = o
    · subst h1; exact hr2 k
    · rw [hr o' h1]; exact h.1 o' k
  · have hne : o' ≠ o := by omega
    rw [hk, hl, hi o' hne, hr o' hne]
    exact h.2.2.2 o' h1 h2
theorem cl_Z_si {η : cl_S} {o : Nat} {f : Nat → Int32} (h : cl_Z η) (ho : cl_K < o) : cl_Z (cl_si η o f) :=
  cl_Z_of h ho rfl (fun _ => rfl) (fun _ => rfl) (fun o' hne => by funext k; simp [cl_i, cl_si, va_up, hne]) (fun _ _ => rfl) (fun k => h.1 o k)
theorem cl_Z_sr {η : cl_S} {o : Nat} {f : Nat → Nat} (h : cl_Z η) (ho : cl_K < o) (hf : ∀ k, f k ≤ cl_n η) : cl_Z (cl_sr η o f) :=
  cl_Z_of h ho rfl (fun _ => rfl) (fun _ => rfl) (fun _ _ => rfl) (fun o' hne => by funext k; simp [cl_r, cl_sr, va_up, hne]) (fun k => by simpa [cl_r, cl_sr, va_up] using hf k)
theorem cl_Z_wr {η : cl_S} {o k v : Nat} (h : cl_Z η) (ho : cl_K < o) (hv : v ≤ cl_n η) : cl_Z (cl_wr η o k v) := by
  refine cl_Z_sr h ho (fun k' => ?_)
  by_cases h2 : k' = k
  · subst h2; rw [va_up_self]; exact hv
  · rw [va_up_ne _ _ h2]; exact h.1 o k'
theorem cl_Z_nw {η : cl_S} {c n : Nat} (h : cl_Z η) (hc : cl_ck c = false) : cl_Z (cl_nw η c n) := by
  have hn : cl_n (cl_nw η c n) = cl_n η + 1 := rfl
  refine ⟨fun o k => ?_, by rw [hn]; exact Nat.le_trans h.2.1 (Nat.le_succ _), fun o h1 => ?_, fun o h1 h2 => ?_⟩
  · rw [hn]
    by_cases h1 : o = η.1 + 1
    · subst h1
      simp [cl_r, cl_nw, va_up]
    · have e : cl_r (cl_nw η c n) o k = cl_r η o k := by simp [cl_r, cl_nw, va_up, h1]
      rw [e]
      exact Nat.le_trans (h.1 o k) (Nat.le_succ _)
  · by_cases h2 : o = η.1 + 1
    · subst h2
      have e : cl_k (cl_nw η c n) (η.1 + 1) = c := by simp [cl_k, cl_nw, va_up]
      rw [e]; exact hc
    · have e : cl_k (cl_nw η c n) o = cl_k η o := by simp [cl_k, cl_nw, va_up, h2]
      rw [e]; exact h.2.2.1 o h1
  · have hK := h.2.1
    have hne : o ≠ η.1 + 1 := by have : cl_n η = η.1 := rfl; omega
    have e0 : cl_k (cl_nw η c n) o = cl_k η o := by simp [cl_k, cl_nw, va_up, hne]
    have e1 : cl_i (cl_nw η c n) o = cl_i η o := by funext k; simp [cl_i, cl_nw, va_up, hne]
    have e2 : cl_r (cl_nw η c n) o = cl_r η o := by funext k; simp [cl_r, cl_nw, va_up, hne]
    have e3 : cl_l (cl_nw η c n) o = cl_l η o := by simp [cl_l, cl_nw, va_up, hne]
    rw [e0, e1, e2, e3]
    exact h.2.2.2 o h1 h2
section CLR
variable {p : Program} {l : Launch} {e : Env} {R : Room} {s : State} {m : MethodId} {args : Array Value} {below : List Frame} {meth : Method} {c : Code} {H : Heap} {locs : List Loc} {cells slots : Nat} {Q : State → Prop}
variable {cc : ByteArray} {nL pc : Nat} {ls : Array Slot} {rest : List Value} {D : va_G} {dA : Nat → ClassId} {B : (Nat → Nat) × Nat} {ad : Nat → Nat} {A : Nat → Prop} {H0 : Heap} {η : cl_S} {own : String} {a o : Nat}
variable {ref C : String} {T : u_T} {N ci index : Nat}
theorem cl_gv (S : CallFix p m c cc nL s args lw_all own) (V : cl_V D dA B ad A H0 η s H locs) (ha : cl_at ad η a o) (hk : cl_k η o = ci) (hc : vwCl[ci]? = some (C, T, N)) (h20 : ci < 20) (hin : ∀ w ∈ u_ws C T N, w ∈ lw_all) (k : Nat) (hkN : k < N) {v : Value} (hv : (cl_ob ad η o (cl_fk ci) 0)[k]? = some v) (hlink : Cond.fieldLink own index ref (T k).2.1 (T k).2.2.1 ∈ lw_all) (hs : (T k).1 = ref) (hdg : decode cc pc = .ok (.getfield index, 3))
    (kk : W p l e R s m args below meth c H locs cells slots Q (F0 m (pc + 3) ls (v :: rest))) : W p l e R s m args below meth c H locs cells slots Q (F0 m pc ls (.ref a :: rest)) := by
  obtain ⟨rfl, h1, h2⟩ := ha
  replace h1 := cl_Kk V.2.2.2.2.2.2.1 h1 hk (cl_ck_ob hc)
  exact va_get (D := D) (ci := ci) (C := C) (T := T) (N := N) S.1 S.2.1 S.2.2.2.2 hin S.2.2.2.1 V.2.1 V.2.2.1 (o - 1 - cl_K) (by rw [cl_ws_at h1 h2, cl_ce_ob hk h20]) hc k hkN (S.2.2.2.2 _ hlink) (fun x h9 => by rw [hs] at h9; exact h9) hv hdg kk
theorem cl_gi (S : CallFix p m c cc nL s args lw_all own) (V : cl_V D dA B ad A H0 η s H locs) (ha : cl_at ad η a o) (hk : cl_k η o = ci) (hc : vwCl[ci]? = some (C, T, N)) (h20 : ci < 20) (hin : ∀ w ∈ u_ws C T N, w ∈ lw_all) (k : Nat) (hkN : k < N) (hf : (cl_fk ci)[k]? = some true) (hlink : Cond.fieldLink own index ref (T k).2.1 (T k).2.2.1 ∈ lw_all) (hs : (T k).1 = ref) (hdg : decode cc pc = .ok (.getfield index, 3))
    (kk : W p l e R s m args below meth c H locs cells slots Q (F0 m (pc + 3) ls (.int (cl_i η o k) :: rest))) : W p l e R s m args below meth c H locs cells slots Q (F0 m pc ls (.ref a :: rest)) :=
  cl_gv S V ha hk hc h20 hin k hkN (by have := cl_ob_i (ad := ad) (η := η) (o := o) (cl_fk ci) 0 k hf; rwa [Nat.zero_add] at this) hlink hs hdg kk
theorem cl_gr (S : CallFix p m c cc nL s args lw_all own) (V : cl_V D dA B ad A H0 η s H locs) (ha : cl_at ad η a o) (hk : cl_k η o = ci) (hc : vwCl[ci]? = some (C, T, N)) (h20 : ci < 20) (hin : ∀ w ∈ u_ws C T N, w ∈ lw_all) (k : Nat) (hkN : k < N) (hf : (cl_fk ci)[k]? = some false) (hlink : Cond.fieldLink own index ref (T k).2.1 (T k).2.2.1 ∈ lw_all) (hs : (T k).1 = ref) (hdg : decode cc pc = .ok (.getfield index, 3)) (h0 : ¬ cl_r η o k = 0)
    (kk : ∀ b : Nat, cl_at ad η b (cl_r η o k) → W p l e R s m args below meth c H locs cells slots Q (F0 m (pc + 3) ls (.ref b :: rest))) : W p l e R s m args below meth c H locs cells slots Q (F0 m pc ls (.ref a :: rest)) :=
  cl_gv (v := .ref (ad (cl_r η o k))) S V ha hk hc h20 hin k hkN (by have := cl_ob_r (ad := ad) (η := η) (o := o) (cl_fk ci) 0 k hf; rw [Nat.zero_add, cl_rf_s h0] at this; exact this) hlink hs hdg (kk _ ⟨rfl, Nat.pos_of_ne_zero h0, V.2.2.2.2.2.2.1.1 o k⟩)
theorem cl_gn (S : CallFix p m c cc nL s args lw_all own) (V : cl_V D dA B ad A H0 η s H locs) (ha : cl_at ad η a o) (hk : cl_k η o = ci) (hc : vwCl[ci]? = some (C, T, N)) (h20 : ci < 20) (hin : ∀ w ∈ u_ws C T N, w ∈ lw_all) (k : Nat) (hkN : k < N) (hf : (cl_fk ci)[k]? = some false) (hlink : Cond.fieldLink own index ref (T k).2.1 (T k).2.2.1 ∈ lw_all) (hs : (T k).1 = ref) (hdg : decode cc pc = .ok (.getfield index, 3)) (h0 : cl_r η o k = 0)
    (kk : W p l e R s m args below meth c H locs cells slots Q (F0 m (pc + 3) ls (.null :: rest))) : W p l e R s m args below meth c H locs cells slots Q (F0 m pc ls (.ref a :: rest)) :=
  cl_gv (v := .null) S V ha hk hc h20 hin k hkN (by have := cl_ob_r (ad := ad) (η := η) (o := o) (cl_fk ci) 0 k hf; rw [Nat.zero_add, cl_rf_n h0] at this; exact this) hlink hs hdg kk
/-- a private field of a nest mate -/
theorem cl_gvN {host : String} (S : CallFix p m c cc nL s args lw_all own) (V : cl_V D dA B ad A H0 η s H locs) (ha : cl_at ad η a o) (hk : cl_k η o = ci) (hc : vwCl[ci]? = some (C, T, N)) (h20 : ci < 20) (hin : ∀ w ∈ u_ws C T N, w ∈ lw_all) (k : Nat) (hkN : k < N) {v : Value} (hv : (cl_ob ad η o (cl_fk ci) 0)[k]? = some v) (hlink : Cond.fieldLinkNest own index ref (T k).2.1 (T k).2.2.1 host ∈ cl_nws) (hs : (T k).1 = ref) (hdg : decode cc pc = .ok (.getfield index, 3))
    (kk : W p l e R s m args below meth c H locs cells slots Q (F0 m (pc + 3) ls (v :: rest))) : W p l e R s m args below meth c H locs cells slots Q (F0 m pc ls (.ref a :: rest)) := by
  obtain ⟨rfl, h1, h2⟩ := ha
  replace h1 := cl_Kk V.2.2.2.2.2.2.1 h1 hk (cl_ck_ob hc)
  exact va_getN (D := D) (ci := ci) (C := C) (T := T) (N := N) S.1 S.2.1 S.2.2.2.2 hin S.2.2.2.1 V.2.1 V.2.2.1 (o - 1 - cl_K) (by rw [cl_ws_at h1 h2, cl_ce_ob hk h20]) hc k hkN (va_Nw.use rfl (V.1.1 _ hlink)) (fun x h9 => by rw [hs] at h9; exact h9) hv hdg kk
theorem cl_giN {host : String} (S : CallFix p m c cc nL s args lw_all own) (V : cl_V D dA B ad A H0 η s H locs) (ha : cl_at ad η a o) (hk : cl_k η o = ci) (hc : vwCl[ci]? = some (C, T, N)) (h20 : ci < 20) (hin : ∀ w ∈ u_ws C T N, w ∈ lw_all) (k : Nat) (hkN : k < N) (hf : (cl_fk ci)[k]? = some true) (hlink : Cond.fieldLinkNest own index ref (T k).2.1 (T k).2.2.1 host ∈ cl_nws) (hs : (T k).1 = ref) (hdg : decode cc pc = .ok (.getfield index, 3))
    (kk : W p l e R s m args below meth c H locs cells slots Q (F0 m (pc + 3) ls (.int (cl_i η o k) :: rest))) : W p l e R s m args below meth c H locs cells slots Q (F0 m pc ls (.ref a :: rest)) :=
  cl_gvN S V ha hk hc h20 hin k hkN (by have := cl_ob_i (ad := ad) (η := η) (o := o) (cl_fk ci) 0 k hf; rwa [Nat.zero_add] at this) hlink hs hdg kk
theorem cl_grN {host : String} (S : CallFix p m c cc nL s args lw_all own) (V : cl_V D dA B ad A H0 η s H locs) (ha : cl_at ad η a o) (hk : cl_k η o = ci) (hc : vwCl[ci]? = some (C, T, N)) (h20 : ci < 20) (hin : ∀ w ∈ u_ws C T N, w ∈ lw_all) (k : Nat) (hkN : k < N) (hf : (cl_fk ci)[k]? = some false) (hlink : Cond.fieldLinkNest own index ref (T k).2.1 (T k).2.2.1 host ∈ cl_nws) (hs : (T k).1 = ref) (hdg : decode cc pc = .ok (.getfield index, 3)) (h0 : ¬ cl_r η o k = 0)
    (kk : ∀ b : Nat, cl_at ad η b (cl_r η o k) → W p l e R s m args below meth c H locs cells slots Q (F0 m (pc + 3) ls (.ref b :: rest))) : W p l e R s m args below meth c H locs cells slots Q (F0 m pc ls (.ref a :: rest)) :=
  cl_gvN (v := .ref (ad (cl_r η o k))) S V ha hk hc h20 hin k hkN (by have := cl_ob_r (ad := ad) (η := η) (o := o) (cl_fk ci) 0 k hf; rw [Nat.zero_add, cl_rf_s h0] at this; exact this) hlink hs hdg (kk _ ⟨rfl, Nat.pos_of_ne_zero h0, V.2.2.2.2.2.2.1.1 o k⟩)
theorem cl_gnN {host : String} (S : CallFix p m c cc nL s args lw_all own) (V : cl_V D dA B ad A H0 η s H locs) (ha : cl_at ad η a o) (hk : cl_k η o = ci) (hc : vwCl[ci]? = some (C, T, N)) (h20 : ci < 20) (hin : ∀ w ∈ u_ws C T N, w ∈ lw_all) (k : Nat) (hkN : k < N) (hf : (cl_fk ci)[k]? = some false) (hlink : Cond.fieldLinkNest own index ref (T k).2.1 (T k).2.2.1 host ∈ cl_nws) (hs : (T k).1 = ref) (hdg : decode cc pc = .ok (.getfield index, 3)) (h0 : cl_r η o k = 0)
    (kk : W p l e R s m args below meth c H locs cells slots Q (F0 m (pc + 3) ls (.null :: rest))) : W p l e R s m args below meth c H locs cells slots Q (F0 m pc ls (.ref a :: rest)) :=
  cl_gvN (v := .null) S V ha hk hc h20 hin k hkN (by have := cl_ob_r (ad := ad) (η := η) (o := o) (cl_fk ci) 0 k hf; rw [Nat.zero_add, cl_rf_n h0] at this; exact this) hlink hs hdg kk
/-- how a store changes the world -/
theorem cl_V_put {η' : cl_S} {e0 : va_E} {H1 : Heap} {locs1 : List Loc} (V : cl_V D dA B ad A H0 η s H locs) (h1 : cl_K < o) (hn : cl_n η' = cl_n η) (hZ : cl_Z η') (ho : ∀ o', o' ≠ o → cl_ce dA ad η' o' = cl_ce dA ad η o') (he : cl_ce dA ad η' o = e0) (hP : va_P D vwCl ((cl_ws dA ad η).set (o - 1 - cl_K) (ad o, e0)) H1) (hD : va_D A ((cl_ws dA ad η).set (o - 1 - cl_K) (ad o, e0))) (hS : va_S A H0 H1 locs1) : cl_V D dA B ad A H0 η' s H1 locs1 := by
  subst he
  rw [cl_ws_set h1 hn ho] at hP hD
  exact ⟨V.1, V.2.1, hP, hD, hS, V.2.2.2.2.2.1, hZ, V.2.2.2.2.2.2.2.1, by rw [hn]; exact V.2.2.2.2.2.2.2.2⟩
theorem cl_V_wi {k : Nat} {v : Int32} {H1 : Heap} {locs1 : List Loc} (V : cl_V D dA B ad A H0 η s H locs) (h1 : cl_K < o) (hk : cl_k η o = ci) (h20 : ci < 20) (hf : (cl_fk ci)[k]? = some true) (hP : va_P D vwCl ((cl_ws dA ad η).set (o - 1 - cl_K) (ad o, .inr (ci, (cl_ob ad η o (cl_fk ci) 0).set k (.int v)))) H1) (hD : va_D A ((cl_ws dA ad η).set (o - 1 - cl_K) (ad o, .inr (ci, (cl_ob ad η o (cl_fk ci) 0).set k (.int v))))) (hS : va_S A H0 H1 locs1) : cl_V D dA B ad A H0 (cl_wi η o k v) s H1 locs1 := by
  refine cl_V_put (o := o) (η' := cl_wi η o k v) V h1 rfl (cl_Z_si V.2.2.2.2.2.2.1 h1) (fun o' h => cl_ce_ne_si h) ?_ hP hD hS
  rw [cl_ce_ob (η := cl_wi η o k v) (ci := ci) hk h20, cl_ob_wi (cl_fk ci) 0 k hf, Nat.zero_add]
theorem cl_V_wr {k v : Nat} {H1 : Heap} {locs1 : List Loc} (V : cl_V D dA B ad A H0 η s H locs) (h1 : cl_K < o) (hk : cl_k η o = ci) (h20 : ci < 20) (hv : v ≤ cl_n η) (hf : (cl_fk ci)[k]? = some false) (hP : va_P D vwCl ((cl_ws dA ad η).set (o - 1 - cl_K) (ad o, .inr (ci, (cl_ob ad η o (cl_fk ci) 0).set k (va_rf (cl_rf ad v))))) H1) (hD : va_D A ((cl_ws dA ad η).set (o - 1 - cl_K) (ad o, .inr (ci, (cl_ob ad η o (cl_fk ci) 0).set k (va_rf (cl_rf ad v)))))) (hS : va_S A H0 H1 locs1) : cl_V D dA B ad A H0 (cl_wr η o k v) s H1 locs1 := by
  refine cl_V_put (o := o) (η' := cl_wr η o k v) V h1 rfl (cl_Z_wr V.2.2.2.2.2.2.1 h1 hv) (fun o' h => cl_ce_ne_sr h) ?_ hP hD hS
  rw [cl_ce_ob (η := cl_wr η o k v) (ci := ci) hk h20, cl_ob_wr (cl_fk ci) 0 k hf, Nat.zero_add]
theorem cl_pi (S : CallFix p m c cc nL s args lw_all own) (V : cl_V D dA B ad A H0 η s H locs) (ha : cl_at ad η a o) (hk : cl_k η o = ci) (hc : vwCl[ci]? = some (C, T, N)) (h20 : ci < 20) (hin : ∀ w ∈ u_ws C T N, w ∈ lw_all) (ty0 : Nat → FieldType) (hty : ∀ k, k < N → parseFieldDescriptor (T k).2.2.1 = some (ty0 k)) (hnm : ∀ a, a < N → ∀ b, b < N → a ≠ b → (T a).2.1 ≠ (T b).2.1) (k : Nat) (hkN : k < N) (hf : (cl_fk ci)[k]? = some true) (hlink : Cond.fieldLink own index ref (T k).2.1 (T k).2.2.1 ∈ lw_all) (hs : (T k).1 = ref) (hfin : (T k).2.2.2 = false) (htk : ty0 k = .int) {v : Int32} (hdg : decode cc pc = .ok (.putfield index, 3))
    (kk : ∀ (H1 : Heap) (locs1 : List Loc), cl_V D dA B ad A H0 (cl_wi η o k v) s H1 locs1 → W p l e R s m args below meth c H1 locs1 cells slots Q (F0 m (pc + 3) ls rest)) : W p l e R s m args below meth c H locs cells slots Q (F0 m pc ls (.int v :: .ref a :: rest)) := by
  obtain ⟨rfl, h1, h2⟩ := ha
  replace h1 := cl_Kk V.2.2.2.2.2.2.1 h1 hk (cl_ck_ob hc)
  refine va_put (D := D) (ci := ci) (v := .int v) (ty := .int) (C := C) (T := T) (N := N) S.1 S.2.1 S.2.2.2.2 hin ty0 hty hnm S.2.2.2.1 V.2.1 V.2.2.1 V.2.2.2.1 V.2.2.2.2.1 (o - 1 - cl_K) (by rw [cl_ws_at h1 h2, cl_ce_ob hk h20]) hc k hkN (S.2.2.2.2 _ hlink) (fun x h9 => by rw [hs] at h9; exact h9) hfin (by rw [← htk]; exact hty k hkN) rfl rfl ?_ hdg (fun H1 locs1 hP hD hS => kk H1 locs1 (cl_V_wi V h1 hk h20 hf hP hD hS))
  rw [cl_ob_len]
  exact (List.getElem?_eq_some_iff.mp hf).1
theorem cl_piF (S : CallFix p m c cc nL s args lw_all own) (V : cl_V D dA B ad A H0 η s H locs) (ha : cl_at ad η a o) (hk : cl_k η o = ci) (hc : vwCl[ci]? = some (C, T, N)) (h20 : ci < 20) (hin : ∀ w ∈ u_ws C T N, w ∈ lw_all) (ty0 : Nat → FieldType) (hty : ∀ k, k < N → parseFieldDescriptor (T k).2.2.1 = some (ty0 k)) (hnm : ∀ a, a < N → ∀ b, b < N → a ≠ b → (T a).2.1 ≠ (T b).2.1) (k : Nat) (hkN : k < N) (hf : (cl_fk ci)[k]? = some true) (hlink : Cond.fieldLink own index ref (T k).2.1 (T k).2.2.1 ∈ lw_all) (hs : (T k).1 = ref) (hfin : (T k).2.2.2 = true) (htk : ty0 k = .int) (hini : meth.name = "<init>") (hdecl : (T k).1 = own) {v : Int32} (hdg : decode cc pc = .ok (.putfield index, 3))
    (kk : ∀ (H1 : Heap) (locs1 : List Loc), cl_V D dA B ad A H0 (cl_wi η o k v) s H1 locs1 → W p l e R s m args below meth c H1 locs1 cells slots Q (F0 m (pc + 3) ls rest)) : W p l e R s m args below meth c H locs cells slots Q (F0 m pc ls (.int v :: .ref a :: rest)) := by
  obtain ⟨rfl, h1, h2⟩ := ha
  replace h1 := cl_Kk V.2.2.2.2.2.2.1 h1 hk (cl_ck_ob hc)
  refine va_putF (D := D) (ci := ci) (v := .int v) (ty := .int) (C := C) (T := T) (N := N) S.1 S.2.1 S.2.2.2.2 hin ty0 hty hnm S.2.2.2.1 V.2.1 V.2.2.1 V.2.2.2.1 V.2.2.2.2.1 (o - 1 - cl_K) (by rw [cl_ws_at h1 h2, cl_ce_ob hk h20]) hc k hkN (S.2.2.2.2 _ hlink) (fun x h9 => by rw [hs] at h9; exact h9) hfin hini hdecl (by rw [← htk]; exact hty k hkN) rfl rfl ?_ hdg (fun H1 locs1 hP hD hS => kk H1 locs1 (cl_V_wi V h1 hk h20 hf hP hD hS))
  rw [cl_ob_len]
  exact (List.getElem?_eq_some_iff.mp hf).1
theorem cl_pr (S : CallFix p m c cc nL s args lw_all own) (V : cl_V D dA B ad A H0 η s H locs) (ha : cl_at ad η a o) (hk : cl_k η o = ci) (hc : vwCl[ci]? = some (C, T, N)) (h20 : ci < 20) (hin : ∀ w ∈ u_ws C T N, w ∈ lw_all) (ty0 : Nat → FieldType) (hty : ∀ k, k < N → parseFieldDescriptor (T k).2.2.1 = some (ty0 k)) (hnm : ∀ a, a < N → ∀ b, b < N → a ≠ b → (T a).2.1 ≠ (T b).2.1) (k : Nat) (hkN : k < N) (hf : (cl_fk ci)[k]? = some false) (hlink : Cond.fieldLink own index ref (T k).2.1 (T k).2.2.1 ∈ lw_all) (hs : (T k).1 = ref) (hfin : (T k).2.2.2 = false) {b v : Nat} (hb : cl_at ad η b v) (hn : narrow (ty0 k) (.ref b) = .ref b) (hfit : fits (ty0 k) (.ref b) = true) (hdg : decode cc pc = .ok (.putfield index, 3))
    (kk : ∀ (H1 : Heap) (locs1 : List Loc), cl_V D dA B ad A H0 (cl_wr η o k v) s H1 locs1 → W p l e R s m args below meth c H1 locs1 cells slots Q (F0 m (pc + 3) ls rest)) : W p l e R s m args below meth c H locs cells slots Q (F0 m pc ls (.ref b :: .ref a :: rest)) := by
  obtain ⟨rfl, h1, h2⟩ := ha
  replace h1 := cl_Kk V.2.2.2.2.2.2.1 h1 hk (cl_ck_ob hc)
  obtain ⟨rfl, b1, b2⟩ := hb
  have hv : va_rf (cl_rf ad v) = .ref (ad v) := by rw [cl_rf_s (by omega)]; rfl
  refine va_put (D := D) (ci := ci) (v := .ref (ad v)) (ty := ty0 k) (C := C) (T := T) (N := N) S.1 S.2.1 S.2.2.2.2 hin ty0 hty hnm S.2.2.2.1 V.2.1 V.2.2.1 V.2.2.2.1 V.2.2.2.2.1 (o - 1 - cl_K) (by rw [cl_ws_at h1 h2, cl_ce_ob hk h20]) hc k hkN (S.2.2.2.2 _ hlink) (fun x h9 => by rw [hs] at h9; exact h9) hfin (hty k hkN) hn hfit ?_ hdg (fun H1 locs1 hP hD hS => kk H1 locs1 (cl_V_wr V h1 hk h20 b2 hf (by rw [hv]; exact hP) (by rw [hv]; exact hD) hS))
  rw [cl_ob_len]
  exact (List.getElem?_eq_some_iff.mp hf).1
theorem cl_prF (S : CallFix p m c cc nL s args lw_all own) (V : cl_V D dA B ad A H0 η s H locs) (ha : cl_at ad η a o) (hk : cl_k η o = ci) (hc : vwCl[ci]? = some (C, T, N)) (h20 : ci < 20) (hin : ∀ w ∈ u_ws C T N, w ∈ lw_all) (ty0 : Nat → FieldType) (hty : ∀ k, k < N → parseFieldDescriptor (T k).2.2.1 = some (ty0 k)) (hnm : ∀ a, a < N → ∀ b, b < N → a ≠ b → (T a).2.1 ≠ (T b).2.1) (k : Nat) (hkN : k < N) (hf : (cl_fk ci)[k]? = some false) (hlink : Cond.fieldLink own index ref (T k).2.1 (T k).2.2.1 ∈ lw_all) (hs : (T k).1 = ref) (hfin : (T k).2.2.2 = true) (hini : meth.name = "<init>") (hdecl : (T k).1 = own) {b v : Nat} (hb : cl_at ad η b v) (hn : narrow (ty0 k) (.ref b) = .ref b) (hfit : fits (ty0 k) (.ref b) = true) (hdg : decode cc pc = .ok (.putfield index, 3))
    (kk : ∀ (H1 : Heap) (locs1 : List Loc), cl_V D dA B ad A H0 (cl_wr η o k v) s H1 locs1 → W p l e R s m args below meth c H1 locs1 cells slots Q (F0 m (pc + 3) ls rest)) : W p l e R s m args below meth c H locs cells slots Q (F0 m pc ls (.ref b :: .ref a :: rest)) := by
  obtain ⟨rfl, h1, h2⟩ := ha
  replace h1 := cl_Kk V.2.2.2.2.2.2.1 h1 hk (cl_ck_ob hc)
  obtain ⟨rfl, b1, b2⟩ := hb
  have hv : va_rf (cl_rf ad v) = .ref (ad v) := by rw [cl_rf_s (by omega)]; rfl
  refine va_putF (D := D) (ci := ci) (v := .ref (ad v)) (ty := ty0 k) (C := C) (T := T) (N := N) S.1 S.2.1 S.2.2.2.2 hin ty0 hty hnm S.2.2.2.1 V.2.1 V.2.2.1 V.2.2.2.1 V.2.2.2.2.1 (o - 1 - cl_K) (by rw [cl_ws_at h1 h2, cl_ce_ob hk h20]) hc k hkN (S.2.2.2.2 _ hlink) (fun x h9 => by rw [hs] at h9; exact h9) hfin hini hdecl (hty k hkN) hn hfit ?_ hdg (fun H1 locs1 hP hD hS => kk H1 locs1 (cl_V_wr V h1 hk h20 b2 hf (by rw [hv]; exact hP) (by rw [hv]; exact hD) hS))
  rw [cl_ob_len]
  exact (List.getElem?_eq_some_iff.mp hf).1
theorem cl_prN {host : String} (S : CallFix p m c cc nL s args lw_all own) (V : cl_V D dA B ad A H0 η s H locs) (ha : cl_at ad η a o) (hk : cl_k η o = ci) (hc : vwCl[ci]? = some (C, T, N)) (h20 : ci < 20) (hin : ∀ w ∈ u_ws C T N, w ∈ lw_all) (ty0 : Nat → FieldType) (hty : ∀ k, k < N → parseFieldDescriptor (T k).2.2.1 = some (ty0 k)) (hnm : ∀ a, a < N → ∀ b, b < N → a ≠ b → (T a).2.1 ≠ (T b).2.1) (k : Nat) (hkN : k < N) (hf : (cl_fk ci)[k]? = some false) (hlink : Cond.fieldLinkNest own index ref (T k).2.1 (T k).2.2.1 host ∈ cl_nws) (hs : (T k).1 = ref) (hfin : (T k).2.2.2 = false) {b v : Nat} (hb : cl_at ad η b v) (hn : narrow (ty0 k) (.ref b) = .ref b) (hfit : fits (ty0 k) (.ref b) = true) (hdg : decode cc pc = .ok (.putfield index, 3))
    (kk : ∀ (H1 : Heap) (locs1 : List Loc), cl_V D dA B ad A H0 (cl_wr η o k v) s H1 locs1 → W p l e R s m args below meth c H1 locs1 cells slots Q (F0 m (pc + 3) ls rest)) : W p l e R s m args below meth c H locs cells slots Q (F0 m pc ls (.ref b :: .ref a :: rest)) := by
  obtain ⟨rfl, h1, h2⟩ := ha
  replace h1 := cl_Kk V.2.2.2.2.2.2.1 h1 hk (cl_ck_ob hc)
  obtain ⟨rfl, b1, b2⟩ := hb
  have hv : va_rf (cl_rf ad v) = .ref (ad v) := by rw [cl_rf_s (by omega)]; rfl
  refine va_putN (D := D) (ci := ci) (v := .ref (ad v)) (ty := ty0 k) (C := C) (T := T) (N := N) S.1 S.2.1 S.2.2.2.2 hin ty0 hty hnm S.2.2.2.1 V.2.1 V.2.2.1 V.2.2.2.1 V.2.2.2.2.1 (o - 1 - cl_K) (by rw [cl_ws_at h1 h2, cl_ce_ob hk h20]) hc k hkN (va_Nw.use rfl (V.1.1 _ hlink)) (fun x h9 => by rw [hs] at h9; exact h9) hfin (hty k hkN) hn hfit ?_ hdg (fun H1 locs1 hP hD hS => kk H1 locs1 (cl_V_wr V h1 hk h20 b2 hf (by rw [hv]; exact hP) (by rw [hv]; exact hD) hS))
  rw [cl_ob_len]
  exact (List.getElem?_eq_some_iff.mp hf).1
theorem cl_pnN {host : String} (S : CallFix p m c cc nL s args lw_all own) (V : cl_V D dA B ad A H0 η s H locs) (ha : cl_at ad η a o) (hk : cl_k η o = ci) (hc : vwCl[ci]? = some (C, T, N)) (h20 : ci < 20) (hin : ∀ w ∈ u_ws C T N, w ∈ lw_all) (ty0 : Nat → FieldType) (hty : ∀ k, k < N → parseFieldDescriptor (T k).2.2.1 = some (ty0 k)) (hnm : ∀ a, a < N → ∀ b, b < N → a ≠ b → (T a).2.1 ≠ (T b).2.1) (k : Nat) (hkN : k < N) (hf : (cl_fk ci)[k]? = some false) (hlink : Cond.fieldLinkNest own index ref (T k).2.1 (T k).2.2.1 host ∈ cl_nws) (hs : (T k).1 = ref) (hfin : (T k).2.2.2 = false) (hn : narrow (ty0 k) .null = .null) (hfit : fits (ty0 k) .null = true) (hdg : decode cc pc = .ok (.putfield index, 3))
    (kk : ∀ (H1 : Heap) (locs1 : List Loc), cl_V D dA B ad A H0 (cl_wr η o k 0) s H1 locs1 → W p l e R s m args below meth c H1 locs1 cells slots Q (F0 m (pc + 3) ls rest)) : W p l e R s m args below meth c H locs cells slots Q (F0 m pc ls (.null :: .ref a :: rest)) := by
  obtain ⟨rfl, h1, h2⟩ := ha
  replace h1 := cl_Kk V.2.2.2.2.2.2.1 h1 hk (cl_ck_ob hc)
  have hv : va_rf (cl_rf ad 0) = .null := by rw [cl_rf_n rfl]; rfl
  refine va_putN (D := D) (ci := ci) (v := .null) (ty := ty0 k) (C := C) (T := T) (N := N) S.1 S.2.1 S.2.2.2.2 hin ty0 hty hnm S.2.2.2.1 V.2.1 V.2.2.1 V.2.2.2.1 V.2.2.2.2.1 (o - 1 - cl_K) (by rw [cl_ws_at h1 h2, cl_ce_ob hk h20]) hc k hkN (va_Nw.use rfl (V.1.1 _ hlink)) (fun x h9 => by rw [hs] at h9; exact h9) hfin (hty k hkN) hn hfit ?_ hdg (fun H1 locs1 hP hD hS => kk H1 locs1 (cl_V_wr V h1 hk h20 (Nat.zero_le _) hf (by rw [hv]; exact hP) (by rw [hv]; exact hD) hS))
  rw [cl_ob_len]
  exact (List.getElem?_eq_some_iff.mp hf).1
end CLR
