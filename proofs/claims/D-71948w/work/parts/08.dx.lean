/-- cells apart: by their addresses alone -/
theorem dx_D_addr {A : Nat → Prop} {ws ws' : va_W} (h : ws.map (·.1) = ws'.map (·.1)) (hD : va_D A ws) : va_D A ws' := by
  have at' : ∀ (k : Nat) (q : Nat × va_E), ws'[k]? = some q → ∃ e, ws[k]? = some (q.1, e) := by
    intro k q hq
    have h1 : (ws'.map (·.1))[k]? = some q.1 := by rw [List.getElem?_map, hq]; rfl
    rw [← h, List.getElem?_map] at h1
    cases hw : ws[k]? with
    | none => rw [hw] at h1; cases h1
    | some x =>
      rw [hw] at h1
      refine ⟨x.2, ?_⟩
      rw [← Option.some.inj h1]
  refine ⟨fun i j x y hx hy hxy => ?_, fun k q hq => ?_⟩
  · obtain ⟨e1, h1⟩ := at' i x hx
    obtain ⟨e2, h2⟩ := at' j y hy
    exact hD.1 i j _ _ h1 h2 hxy
  · obtain ⟨e1, h1⟩ := at' k q hq
    exact hD.2 k (q.1, e1) h1
/-- the classes of which objects are in a world -/
abbrev vwCl : List vw_C := [(RX0, TX0, 13), (RX1, TX1, 1), (RX2, TX2, 10), (RX3, TX3, 1), (RX4, TX4, 8), (RX5, TX5, 2), (RX6, TX6, 29), (RX7, TX7, 7), (RX8, TX8, 8), (RX11, TX11, 1), (RX12, TX12, 1), (RX13, TX13, 1), (RX14, TX14, 1), (RX15, TX15, 1), (RX16, TX16, 2), (RX18, TX18, 2), (RJ4, TJ4, 4), (RJ10, TJ10, 4)]
