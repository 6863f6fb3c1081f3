/-! COMPONENT READING: all of them -/
set_option maxRecDepth 100000
section
variable {τ ta : Nat} {n kd : Int} {tp : Int → Int}
theorem tFn.cg {V : Nat → (Nat → Prop) → zGd → zMm → Nat → aC → Prop} {D : Int → Nat} {s e : Int} {N N' : Int → Prop} {f : tRd} {h : aFn} (k : tFn V D s e N τ ta n tp kd f h) (hN : ∀ o, N' o → N o) : tFn V D s e N' τ ta n tp kd f h := fun g m st a b c => k g m st a b (hN _ c)
theorem t_one {d : Nat} (hb : ∀ i, 0 ≤ i → i < n → 0 ≤ tp i ∧ tp i ≤ 255) (n300 : n ≤ 300) {rc : tTb} {rec : aTb} (hC : ∀ g m st, cS τ ta n tp kd g m st → aV n st → st.s = 213 → dO st.o + 1 ≤ d → tIn vS (dO st.o + 1) 40 τ ta n tp kd g m st (rec.2.2.2.1 st) (rc.2.2.2.1 g m (some τ)) ∨ tOut 10 τ g m st (rec.2.2.2.1 st) (rc.2.2.2.1 g m (some τ))) (hO : tFn vS (fun o => dO o + 1) 40 10 (fun o => dO o + 2 ≤ d) τ ta n tp kd rc.2.2.2.2.1 rec.2.2.2.2.1) (hS : tFn vS (fun o => dO o + 3) 30 20 (fun o => dO o + 4 ≤ d) τ ta n tp kd rc.2.2.2.2.2.2 rec.2.2.2.2.2.2) : tFn vS (fun o => dO o + 1) 40 10 (fun o => dO o + 2 ≤ d + 1) τ ta n tp kd (q_X3_one rc) (aOne (lx tp n) kd rec) := by
  intro g m st h0 hv hN
  have hN : dO st.o + 2 ≤ d + 1 := hN
  by_cases w1 : st.s = 300
  · exact t_one1 hb n300 h0 hv rc rec (Or.inl w1)
  by_cases w2 : st.s = 213
  · have kτ := cS_k h0
    have v4 := h0.2.1.2.2.1
    have q300 := i_eq v4 (show (300 : Int32).toInt = 300 by decide)
    have q213 := i_eq v4 (show (213 : Int32).toInt = 213 by decide)
    have em : aOne (lx tp n) kd rec st = rec.2.2.2.1 st := by
      unfold aOne
      rw [if_neg w1, if_pos w2]
    have ec : q_X3_one rc g m (some τ) = zXd g 3 (some τ) (rc.2.2.2.1 g m (some τ)) (fun (q73, g74, m75) => some (.inr (q73, g74, m75))) fun (r70, g71, m72) => some (.inl (r70, g71, m72)) := by
      unfold q_X3_one
      rw [e_gi (ci := 3) kτ, Option.bind_some, if_neg (fun y => w1 (q300.mp y)), Option.bind_some, if_pos (q213.mpr w2)]
    rw [em, ec]
    rcases hC g m st h0 hv w2 (by omega) with ⟨C, st', p, g2, m2, r1, r2, r3⟩ | ⟨fl, pl, r, r1, r2, r3, r4⟩
    · exact Or.inl ⟨C, st', p, g2, m2, r1, by rw [e_xe r2, e_xl (ci := 3) kτ], r3⟩
    · exact Or.inr ⟨fl, pl, r, r1, by rw [e_xe r2, e_xr (ci := 3) kτ r3.1], r3, r4⟩
  by_cases w3 : aNm st.s = -1
  · exact t_one2 hb n300 hO hS h0 hv ⟨w1, w2, w3⟩ hN
  · exact t_one1 hb n300 h0 hv rc rec (Or.inr ⟨w1, w2, w3⟩)
def tAll (τ ta : Nat) (n : Int) (tp : Int → Int) (kd : Int) (d : Nat) (rc : tTb) (rec : aTb) : Prop :=
  tFn vA (fun o => dO o + 4) 28 25 (fun o => dO o + 5 ≤ d) τ ta n tp kd rc.1 rec.1 ∧
  tFn vA (fun o => dO o + 5) 15 30 (fun o => dO o + 6 ≤ d) τ ta n tp kd rc.2.1 rec.2.1 ∧
  tFn vA (fun o => dO o + 6) 2 35 (fun o => dO o + 7 ≤ d) τ ta n tp kd rc.2.2.1 rec.2.2.1 ∧
  (∀ g m st, cS τ ta n tp kd g m st → aV n st → st.s = 213 → dO st.o + 1 ≤ d → tIn vS (dO st.o + 1) 40 τ ta n tp kd g m st (rec.2.2.2.1 st) (rc.2.2.2.1 g m (some τ)) ∨ tOut 10 τ g m st (rec.2.2.2.1 st) (rc.2.2.2.1 g m (some τ))) ∧
  tFn vS (fun o => dO o + 1) 40 10 (fun o => dO o + 2 ≤ d) τ ta n tp kd rc.2.2.2.2.1 rec.2.2.2.2.1 ∧
  tFn vS (fun o => dO o + 2) 35 15 (fun o => dO o + 3 ≤ d) τ ta n tp kd rc.2.2.2.2.2.1 rec.2.2.2.2.2.1 ∧
  tFn vS (fun o => dO o + 3) 30 20 (fun o => dO o + 4 ≤ d) τ ta n tp kd rc.2.2.2.2.2.2 rec.2.2.2.2.2.2
theorem t_all (hb : ∀ i, 0 ≤ i → i < n → 0 ≤ tp i ∧ tp i ≤ 255) (n300 : n ≤ 300) : ∀ d : Nat, tAll τ ta n tp kd d (r_tok d) (aTk (lx tp n) kd d) := by
  intro d
  induction d with
  | zero =>
    refine ⟨fun g m st _ _ h => ?_, fun g m st _ _ h => ?_, fun g m st _ _ h => ?_, fun g m st _ _ _ h => ?_, fun g m st _ _ h => ?_, fun g m st _ _ h => ?_, fun g m st _ _ h => ?_⟩ <;> exact absurd h (Nat.not_succ_le_zero _)
  | succ d ih =>
    obtain ⟨i1, i2, i3, i4, i5, i6, i7⟩ := ih
    refine ⟨t_ask hb n300 i1 i7, ?_, ?_, fun g m st a b c e => t_choice hb n300 i3 i7 g m st a b c e, t_one hb n300 i4 i5 i7, ?_, ?_⟩
    · exact (al_all (o := 21) (an := 1) (c := 218) (i1 := 218) (s := 15) (e := 30) hb n300 i1 (by decide) (by decide) (by omega) (by omega) (by omega) (by omega) (by omega) (Or.inl ⟨rfl, rfl⟩)).cg (fun o h => by have h : dO o + 6 ≤ d + 1 := h; show dO o + 5 ≤ d; omega)
    · exact (al_all (o := 22) (an := 0) (c := 217) (i1 := 217) (s := 2) (e := 35) hb n300 i2 (by decide) (by decide) (by omega) (by omega) (by omega) (by omega) (by omega) (Or.inr ⟨rfl, rfl⟩)).cg (fun o h => by have h : dO o + 7 ≤ d + 1 := h; show dO o + 6 ≤ d; omega)
    · exact (ch_all (c1 := 42) (c2 := 47) (i1 := 42) (i2 := 47) (o1 := 8) (o2 := 9) (s := 35) (e := 15) hb n300 i5 (by decide) (by decide) (by omega) (by decide) (by decide) (by omega) (by omega) (by omega) (by omega)).cg (fun o h => by have h : dO o + 3 ≤ d + 1 := h; show dO o + 2 ≤ d; omega)
    · exact (ch_all (c1 := 43) (c2 := 45) (i1 := 43) (i2 := 45) (o1 := 6) (o2 := 7) (s := 30) (e := 20) hb n300 i6 (by decide) (by decide) (by omega) (by decide) (by decide) (by omega) (by omega) (by omega) (by omega)).cg (fun o h => by have h : dO o + 4 ≤ d + 1 := h; show dO o + 3 ≤ d; omega)
end
