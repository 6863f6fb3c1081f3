/-! the script: it is read by the law alone, and never written -/
set_option maxRecDepth 100000
def zScr (X : zCx) (b L : Nat) (xs' : Nat → Int32) : Prop := va_X b L xs' (xs X) (xs X).heap ∧ b < (xs X).heap.size ∧ ¬ zB (xg X) ≤ b
def zsld (L : Nat) (v : Nat → Int32) (i : Int32) : Option Int32 := if i < 0 ∨ L ≤ i.toNatClampNeg then none else some (v i.toNatClampNeg)
section
variable {X : zCx} {cc : ByteArray} {nL pc fr lo : Nat} {own mn : String} {L : List (Nat × Value)} {st : List Value} {g : zGd} {m : zMm} {α : Type} {fin : α}
theorem g_sald {b n : Nat} {v : Nat → Int32} (hX : zScr X b n v) {i : Int32} {K : Int32 → Option α} (d : decode cc pc = .ok (.iaload, 1)) (h : (zsld n v i).bind K = some fin) (kk : ∀ w, K w = some fin → zG X cc nL own mn fr lo (pc + 1) L (.int w :: st) g m) : zG X cc nL own mn fr lo pc L (.int i :: va_rf (some b) :: st) g m := by
  unfold zsld at h
  by_cases hi : i < 0 ∨ n ≤ i.toNatClampNeg
  · rw [if_pos hi] at h; cases h
  · rw [if_neg hi, Option.bind_some] at h
    have k0 := kk _ h
    refine ⟨k0.1, fun hF H locs cells slots ls hR hL => ?_⟩
    obtain ⟨⟨scr, k1, k2, k3, k4, k5⟩, hb, hn⟩ := hX
    have e0 : H[b]? = some scr := (hR.2.1.2.1 b hb hn).trans k1
    have hlt : i.toNatClampNeg < n := Nat.not_le.mp fun q => hi (Or.inr q)
    exact W.iald (v := .int (v i.toNatClampNeg)) hF.ex hF.by e0 k2 k3 (by rw [k4]; exact hi) (k5 _ hlt) rfl rfl d (k0.2 hF H locs cells slots ls hR hL)
theorem g_salen {b n : Nat} {v : Nat → Int32} (hX : zScr X b n v) (d : decode cc pc = .ok (.arraylength, 1)) (kk : zG X cc nL own mn fr lo (pc + 1) L (.int (Int32.ofNat n) :: st) g m) : zG X cc nL own mn fr lo pc L (va_rf (some b) :: st) g m := by
  refine ⟨kk.1, fun hF H locs cells slots ls hR hL => ?_⟩
  obtain ⟨⟨scr, k1, k2, k3, k4, k5⟩, hb, hn⟩ := hX
  have e0 : H[b]? = some scr := (hR.2.1.2.1 b hb hn).trans k1
  exact W.alen (n := Int32.ofNat n) hF.ex hF.by e0 k2 (by rw [k4]) rfl rfl d (kk.2 hF H locs cells slots ls hR hL)
end
