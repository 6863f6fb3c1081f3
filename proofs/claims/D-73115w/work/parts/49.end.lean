/-! what the law owes at its end, out of what a method's contract owes -/
set_option maxRecDepth 100000
theorem zEndQ {below : List Frame} {D : zDc} {g : zGd} {m : zMm} {b0 mc ms : Nat} {a : Array Value} {s t : State} (hb : s.heap.size ≤ b0) (hc : mc ≤ 1200128) (hs : ms ≤ 5501098) (h : MQ below (zQc D (some (.int 1)) g m b0) a s mc ms (fun q => b0 ≤ q) t) : ∃ o, t.status = .running ∧ Ended t below o ∧ o = .returned (some (.int 1)) ∧ Framed s o t [] 1200128 5501098 := by
  obtain ⟨o, h1, h2, ⟨h3, -, -⟩, L, ⟨-, h5, h6⟩, h7⟩ := h
  subst h3
  refine ⟨_, h1, h2, rfl, ⟨_, rfl⟩, h5, h6.weaken (fun x hx hlt => ?_) hc hs⟩
  exact absurd hlt (Nat.not_lt.mpr (Nat.le_trans hb (h7 x hx)))
