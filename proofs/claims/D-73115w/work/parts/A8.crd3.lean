/-! COMPONENT READING: all clauses -/
set_option maxRecDepth 100000
/-- where a fault lies; what a reading leaves -/
def aPg (n : Int) (f : aFn) : Prop := ∀ st, aV n st → (∀ q, f st = some (.inr q) → q.2 ≤ n) ∧ ∀ L s', f st = some (.inl (L, s')) → aV n s' ∧ s'.o = st.o
section
variable {n kd : Int} {tp : Int → Int}
theorem aP_op {st : aSt} (h : aV n st) : (∀ q, aOp (lx tp n) st = .inr q → q.2 ≤ n) ∧ ∀ s', aOp (lx tp n) st = .inl s' → aV n s' ∧ s'.o = st.o + 1 := by
  have hp : st.p ≤ n := by have := h.1; omega
  unfold aOp
  by_cases c : st.o = 8
  · rw [if_pos c]
    exact ⟨fun q e => (by cases e; exact hp), fun s' e => by cases e⟩
  · rw [if_neg c]
    refine ⟨fun q e => (by cases e), fun s' e => ?_⟩
    cases e
    obtain ⟨t1, t2, t3⟩ := vN (tp := tp) (n := n) (st := (st.s, st.n, st.p, st.a, st.o + 1)) ⟨h.1, h.2.1, by show 0 ≤ st.o + 1 ∧ st.o + 1 ≤ 8; have := h.2.2; omega⟩
    exact ⟨t1, t3⟩
theorem aP_wt {c : Int} {st : aSt} (h : aV n st) : (∀ q, aWt (lx tp n) c st = .inr q → q.2 ≤ n) ∧ ∀ s', aWt (lx tp n) c st = .inl s' → aV n s' ∧ s'.o = st.o := by
  have hp : st.p ≤ n := by have := h.1; omega
  unfold aWt
  by_cases k : st.s = c
  · rw [if_pos k]
    refine ⟨fun q e => (by cases e), fun s' e => ?_⟩
    cases e
    obtain ⟨t1, t2, t3⟩ := vN (tp := tp) h
    exact ⟨t1, t3⟩
  · rw [if_neg k]
    exact ⟨fun q e => (by cases e; exact hp), fun s' e => by cases e⟩
theorem aP_nu {lo hi : Int} {st : aSt} (h : aV n st) : (∀ q, aNu (lx tp n) lo hi st = .inr q → q.2 ≤ n) ∧ ∀ s', aNu (lx tp n) lo hi st = .inl s' → aV n s'.2 ∧ s'.2.o = st.o := by
  have hp : st.p ≤ n := by have := h.1; omega
  unfold aNu
  by_cases k : st.s = 300
  · rw [if_pos k]
    by_cases b : st.n < lo ∨ hi < st.n
    · rw [if_pos b]
      exact ⟨fun q e => (by cases e; exact hp), fun s' e => by cases e⟩
    · rw [if_neg b]
      refine ⟨fun q e => (by cases e), fun s' e => ?_⟩
      cases e
      obtain ⟨t1, t2, t3⟩ := vN (tp := tp) h
      exact ⟨t1, t3⟩
  · rw [if_neg k]
    exact ⟨fun q e => (by cases e; exact hp), fun s' e => by cases e⟩
theorem aP_sh {st : aSt} (h : aV n st) {o : Int} (ho : st.o = o + 1) (h0 : 0 ≤ o) : aV n (aSh st) ∧ (aSh st).o = o := by
  have e : (aSh st).o = o := by show st.o - 1 = o; omega
  exact ⟨⟨h.1, h.2.1, by rw [e]; have := h.2.2; omega⟩, e⟩
theorem aB_f {α β : Type} {x : α ⊕ aF} {k : α → Option (β ⊕ aF)} {q : aF} (h : aB x k = some (.inr q)) (hx : ∀ q, x = .inr q → q.2 ≤ n) (hk : ∀ a, x = .inl a → k a = some (.inr q) → q.2 ≤ n) : q.2 ≤ n := by
  cases x with
  | inl a => exact hk a rfl h
  | inr f => cases h; exact hx _ rfl
theorem aPg_ch {c1 c2 o1 o2 : Int} {f : aFn} (hf : aPg n f) : aPg n (aCh (lx tp n) c1 c2 o1 o2 f) := by
  have loop : ∀ (F : Nat) (z : aC × aSt), aV n z.2 → (∀ q, zLoop (aMo (lx tp n) c1 c2 o1 o2 f) F z = some (.inl q) → q.2 ≤ n) ∧ ∀ w, zLoop (aMo (lx tp n) c1 c2 o1 o2 f) F z = some (.inr w) → aV n w.2 ∧ w.2.o = z.2.o := by
    intro F
    induction F with
    | zero => intro z _; exact ⟨fun q e => (by cases e), fun w e => by cases e⟩
    | succ F ih =>
      intro z hz
      rw [zLoop_s]
      by_cases hs : z.2.s = c1 ∨ z.2.s = c2
      · obtain ⟨v1, v2, v3⟩ := vN (tp := tp) hz
        cases e3 : f (aNx (lx tp n) z.2) with
        | none =>
          have : aMo (lx tp n) c1 c2 o1 o2 f z = none := by unfold aMo; rw [if_pos hs, e3]; rfl
          rw [this]
          exact ⟨fun q e => (by cases e), fun w e => by cases e⟩
        | some r =>
          cases r with
          | inr q' =>
            have : aMo (lx tp n) c1 c2 o1 o2 f z = some (.inl (.inl q')) := by unfold aMo; rw [if_pos hs, e3]; rfl
            rw [this]
            exact ⟨fun q e => (by cases e; exact (hf _ v1).1 _ e3), fun w e => by cases e⟩
          | inl x =>
            have : aMo (lx tp n) c1 c2 o1 o2 f z = some (.inr (z.1 ++ x.1 ++ [(if z.2.s = c1 then o1 else o2, 0)], x.2)) := by unfold aMo; rw [if_pos hs, e3]; rfl
            rw [this]
            have k := (hf _ v1).2 x.1 x.2 e3
            obtain ⟨i1, i2⟩ := ih (z.1 ++ x.1 ++ [(if z.2.s = c1 then o1 else o2, 0)], x.2) k.1
            exact ⟨fun q e => i1 q e, fun w e => ⟨(i2 w e).1, (i2 w e).2.trans (k.2.trans v3)⟩⟩
      · have : aMo (lx tp n) c1 c2 o1 o2 f z = some (.inl (.inr z)) := by unfold aMo; rw [if_neg hs]
        rw [this]
        exact ⟨fun q e => (by cases e), fun w e => by cases e; exact ⟨hz, rfl⟩⟩
  intro st h0
  refine ⟨fun q h => ?_, fun L s' h => ?_⟩
  · obtain ⟨r, h1, h⟩ := bind_z h
    refine aB_f h (fun q e => (hf st h0).1 q (by rw [h1, e])) (fun x ex h2 => ?_)
    have k := (hf st h0).2 x.1 x.2 (by rw [h1, ex])
    obtain ⟨y, h3, h4⟩ := bind_z h2
    cases y with
    | inl f' => cases h4; exact (loop _ x k.1).1 _ h3
    | inr z => cases h4
  · obtain ⟨r, h1, h⟩ := bind_z h
    obtain ⟨x, ex, h2⟩ := aB_i h
    have k := (hf st h0).2 x.1 x.2 (by rw [h1, ex])
    obtain ⟨y, h3, h4⟩ := bind_z h2
    cases y with
    | inl f' => cases h4
    | inr z =>
      cases h4
      have l := (loop _ x k.1).2 _ h3
      exact ⟨l.1, l.2.trans k.2⟩
theorem aTk_p : ∀ d : Nat, aPg n (aTk (lx tp n) kd d).1 ∧ aPg n (aTk (lx tp n) kd d).2.1 ∧ aPg n (aTk (lx tp n) kd d).2.2.1 ∧ aPg n (aTk (lx tp n) kd d).2.2.2.1 ∧ aPg n (aTk (lx tp n) kd d).2.2.2.2.1 ∧ aPg n (aTk (lx tp n) kd d).2.2.2.2.2.1 ∧ aPg n (aTk (lx tp n) kd d).2.2.2.2.2.2
  | 0 => by
    refine ⟨?_, ?_, ?_, ?_, ?_, ?_, ?_⟩ <;> (intro st _; exact ⟨fun q e => (by cases e), fun L s e => by cases e⟩)
  | d + 1 => by
    obtain ⟨i1, i2, i3, i4, i5, i6, i7⟩ := aTk_p d
    refine ⟨?_, aPg_ch i1, aPg_ch i2, ?_, ?_, aPg_ch i5, aPg_ch i6⟩
    · intro st h0
      have o0 := h0.2.2.1
      show (∀ q, aAsk (lx tp n) (aTk (lx tp n) kd d) st = some (.inr q) → q.2 ≤ n) ∧ ∀ L s', aAsk (lx tp n) (aTk (lx tp n) kd d) st = some (.inl (L, s')) → aV n s' ∧ s'.o = st.o
      unfold aAsk
      by_cases h2 : st.s = 219
      · rw [if_pos h2]
        refine ⟨fun q h => ?_, fun L s' h => ?_⟩
        · refine aB_f h (aP_op h0).1 (fun s1 e1 h => ?_)
          have k1 := (aP_op h0).2 s1 e1
          obtain ⟨r, h1, h⟩ := bind_z h
          exact aB_f h (fun q e => (i1 s1 k1.1).1 q (by rw [h1, e])) (fun x _ h => by cases h)
        · obtain ⟨s1, e1, h⟩ := aB_i h
          have k1 := (aP_op h0).2 s1 e1
          obtain ⟨r, h1, h⟩ := bind_z h
          obtain ⟨x, ex, h⟩ := aB_i h
          have k2 := (i1 s1 k1.1).2 x.1 x.2 (by rw [h1, ex])
          cases h
          exact aP_sh k2.1 (k2.2.trans k1.2) o0
      · rw [if_neg h2]
        refine ⟨fun q h => ?_, fun L s' h => ?_⟩
        · obtain ⟨r, h1, h⟩ := bind_z h
          refine aB_f h (fun q e => (i7 st h0).1 q (by rw [h1, e])) (fun x ex h => ?_)
          have k1 := (i7 st h0).2 x.1 x.2 (by rw [h1, ex])
          by_cases h3 : aCm x.2.s = -1
          · rw [if_pos h3] at h; cases h
            show x.2.p ≤ n
            have := k1.1.1; omega
          · rw [if_neg h3] at h
            obtain ⟨v1, v2, v3⟩ := vN (tp := tp) k1.1
            obtain ⟨r2, h4, h⟩ := bind_z h
            exact aB_f h (fun q e => (i7 _ v1).1 q (by rw [h4, e])) (fun y _ h => by cases h)
        · obtain ⟨r, h1, h⟩ := bind_z h
          obtain ⟨x, ex, h⟩ := aB_i h
          have k1 := (i7 st h0).2 x.1 x.2 (by rw [h1, ex])
          by_cases h3 : aCm x.2.s = -1
          · rw [if_pos h3] at h; cases h
          · rw [if_neg h3] at h
            obtain ⟨v1, v2, v3⟩ := vN (tp := tp) k1.1
            obtain ⟨r2, h4, h⟩ := bind_z h
            obtain ⟨y, ey, h⟩ := aB_i h
            have k2 := (i7 _ v1).2 y.1 y.2 (by rw [h4, ey])
            cases h
            exact ⟨k2.1, k2.2.trans (v3.trans k1.2)⟩
    · intro st h0
      have o0 := h0.2.2.1
      show (∀ q, aChoice (lx tp n) (aTk (lx tp n) kd d) st = some (.inr q) → q.2 ≤ n) ∧ ∀ L s', aChoice (lx tp n) (aTk (lx tp n) kd d) st = some (.inl (L, s')) → aV n s' ∧ s'.o = st.o
      unfold aChoice
      refine ⟨fun q h => ?_, fun L s' h => ?_⟩
      · refine aB_f h (aP_op h0).1 (fun s1 e1 h => ?_)
        have k1 := (aP_op h0).2 s1 e1
        obtain ⟨r, h1, h⟩ := bind_z h
        refine aB_f h (fun q e => (i3 s1 k1.1).1 q (by rw [h1, e])) (fun x ex h => ?_)
        have k2 := (i3 s1 k1.1).2 x.1 x.2 (by rw [h1, ex])
        refine aB_f h (aP_wt k2.1).1 (fun s2 e2 h => ?_)
        have k3 := (aP_wt k2.1).2 s2 e2
        obtain ⟨r2, h2, h⟩ := bind_z h
        refine aB_f h (fun q e => (i7 s2 k3.1).1 q (by rw [h2, e])) (fun y ey h => ?_)
        have k4 := (i7 s2 k3.1).2 y.1 y.2 (by rw [h2, ey])
        refine aB_f h (aP_wt k4.1).1 (fun s3 e3 h => ?_)
        have k5 := (aP_wt k4.1).2 s3 e3
        obtain ⟨r3, h3, h⟩ := bind_z h
        refine aB_f h (fun q e => (i7 s3 k5.1).1 q (by rw [h3, e])) (fun z ez h => ?_)
        have k6 := (i7 s3 k5.1).2 z.1 z.2 (by rw [h3, ez])
        exact aB_f h (aP_wt k6.1).1 (fun s4 e4 h => by cases h)
      · obtain ⟨s1, e1, h⟩ := aB_i h
        have k1 := (aP_op h0).2 s1 e1
        obtain ⟨r, h1, h⟩ := bind_z h
        obtain ⟨x, ex, h⟩ := aB_i h
        have k2 := (i3 s1 k1.1).2 x.1 x.2 (by rw [h1, ex])
        obtain ⟨s2, e2, h⟩ := aB_i h
        have k3 := (aP_wt k2.1).2 s2 e2
        obtain ⟨r2, h2, h⟩ := bind_z h
        obtain ⟨y, ey, h⟩ := aB_i h
        have k4 := (i7 s2 k3.1).2 y.1 y.2 (by rw [h2, ey])
        obtain ⟨s3, e3, h⟩ := aB_i h
        have k5 := (aP_wt k4.1).2 s3 e3
        obtain ⟨r3, h3, h⟩ := bind_z h
        obtain ⟨z, ez, h⟩ := aB_i h
        have k6 := (i7 s3 k5.1).2 z.1 z.2 (by rw [h3, ez])
        obtain ⟨s4, e4, h⟩ := aB_i h
        have k7 := (aP_wt k6.1).2 s4 e4
        cases h
        exact aP_sh k7.1 (by omega) o0
    · intro st h0
      have o0 := h0.2.2.1
      have hp : st.p ≤ n := by have := h0.1; omega
      show (∀ q, aOne (lx tp n) kd (aTk (lx tp n) kd d) st = some (.inr q) → q.2 ≤ n) ∧ ∀ L s', aOne (lx tp n) kd (aTk (lx tp n) kd d) st = some (.inl (L, s')) → aV n s' ∧ s'.o = st.o
      unfold aOne
      by_cases c1 : st.s = 300
      · rw [if_pos c1]
        refine ⟨fun q h => aB_f h (aP_nu h0).1 (fun x _ h => by cases h), fun L s' h => ?_⟩
        obtain ⟨x, ex, h⟩ := aB_i h
        have k := (aP_nu h0).2 x ex
        cases h
        exact k
      rw [if_neg c1]
      by_cases c2 : st.s = 213
      · rw [if_pos c2]; exact i4 st h0
      rw [if_neg c2]
      by_cases c3 : aNm st.s = -1
      · rw [if_pos c3]
        by_cases c4 : st.s = 40
        · rw [if_pos c4]
          refine ⟨fun q h => ?_, fun L s' h => ?_⟩
          · refine aB_f h (aP_op h0).1 (fun s1 e1 h => ?_)
            have k1 := (aP_op h0).2 s1 e1
            obtain ⟨r, h1, h⟩ := bind_z h
            refine aB_f h (fun q e => (i7 s1 k1.1).1 q (by rw [h1, e])) (fun x ex h => ?_)
            have k2 := (i7 s1 k1.1).2 x.1 x.2 (by rw [h1, ex])
            exact aB_f h (aP_wt k2.1).1 (fun s4 _ h => by cases h)
          · obtain ⟨s1, e1, h⟩ := aB_i h
            have k1 := (aP_op h0).2 s1 e1
            obtain ⟨r, h1, h⟩ := bind_z h
            obtain ⟨x, ex, h⟩ := aB_i h
            have k2 := (i7 s1 k1.1).2 x.1 x.2 (by rw [h1, ex])
            obtain ⟨s4, e4, h⟩ := aB_i h
            have k3 := (aP_wt k2.1).2 s4 e4
            cases h
            exact aP_sh k3.1 (by omega) o0
        · rw [if_neg c4]
          by_cases c5 : st.s = 45 ∨ st.s = 211 ∨ st.s = 212
          · rw [if_pos c5]
            refine ⟨fun q h => ?_, fun L s' h => ?_⟩
            · refine aB_f h (aP_op h0).1 (fun s1 e1 h => ?_)
              have k1 := (aP_op h0).2 s1 e1
              obtain ⟨r, h1, h⟩ := bind_z h
              exact aB_f h (fun q e => (i5 s1 k1.1).1 q (by rw [h1, e])) (fun x _ h => by cases h)
            · obtain ⟨s1, e1, h⟩ := aB_i h
              have k1 := (aP_op h0).2 s1 e1
              obtain ⟨r, h1, h⟩ := bind_z h
              obtain ⟨x, ex, h⟩ := aB_i h
              have k2 := (i5 s1 k1.1).2 x.1 x.2 (by rw [h1, ex])
              cases h
              exact aP_sh k2.1 (by omega) o0
          · rw [if_neg c5]
            exact ⟨fun q h => (by cases h; exact hp), fun L s' h => by cases h⟩
      · rw [if_neg c3]
        by_cases c6 : aMy kd (aNm st.s) = true
        · rw [if_pos c6]
          refine ⟨fun q h => (by cases h), fun L s' h => ?_⟩
          cases h
          obtain ⟨t1, t2, t3⟩ := vN (tp := tp) h0
          exact ⟨t1, t3⟩
        · rw [if_neg c6]
          exact ⟨fun q h => (by cases h; exact hp), fun L s' h => by cases h⟩
end
section
variable {τ ta : Nat} {n kd : Int} {tp : Int → Int} {g0 g : zGd} {m0 m : zMm} {x la ld : Nat} {Cl : List aCl} {C : aC} {xs : List Nat} {F : Nat → Prop} {st : aSt}
theorem rd_step (hb : ∀ i, 0 ≤ i → i < n → 0 ≤ tp i ∧ tp i ≤ 255) (n300 : n ≤ 300) (h : rI τ ta n tp g0 m0 x la ld kd (Cl.length : Int) Cl C xs F g m st) (hτ : τ < zZ g0) (hta : ta < zZ g0) (hB0 : zB g0 ≤ zZ g0) :
    (aCla (lx tp n) (Cl, C, st) = some (.inl (.inr (Cl, C, st))) ∧ b_X3_read_12 (some τ) (some x) (g, m) = some (.inl (.inr (g, m)))) ∨
    (∃ fl pl r, aCla (lx tp n) (Cl, C, st) = some (.inl (.inl (fl, pl))) ∧ b_X3_read_12 (some τ) (some x) (g, m) = some (.inl (.inl (.inr r))) ∧ cX τ g0 m0 (50 * n + 60) (60 * (50 * n + 60)) fl pl r) ∨
    ∃ Cl' C' xs' F' g' m' st' kd', aCla (lx tp n) (Cl, C, st) = some (.inr (Cl', C', st')) ∧ b_X3_read_12 (some τ) (some x) (g, m) = some (.inr (g', m')) ∧ rI τ ta n tp g0 m0 x la ld kd' (Cl'.length : Int) Cl' C' xs' F' g' m' st' ∧ st.p < st'.p := by
  have hh := h
  obtain ⟨⟨h1, h2, h3, h4, h5, h6, h7⟩, ⟨x1, x2, x3, x4, x5, x6⟩, ⟨l1, l2, l3⟩, ⟨b1, b2⟩, d1, ⟨f1, f2, f3, f4⟩, ⟨w0, w1⟩, dm, xf⟩ := hh
  have hpn := h3.1
  have h51 := h5.1
  have h52 := h5.2
  by_cases e301 : st.s = 301
  · left
    refine ⟨?_, rd_end h1 e301⟩
    unfold aCla
    dsimp only
    rw [if_pos e301]
  by_cases hr : st.s < 200 ∨ 207 < st.s
  · right; left
    obtain ⟨r, e, k⟩ := rd_stray (x := x) h1 hr e301
    refine ⟨1, st.p, r, ?_, e, cX.tr h2 h51 h52 k (by omega) (by omega)⟩
    unfold aCla
    dsimp only
    rw [if_neg e301, if_pos hr]
  obtain ⟨H1, H2⟩ := rd_head h1 hr x1 x4 (by omega) l1 x6
  obtain ⟨w, ew⟩ : ∃ w : Nat, (w : Int) = st.s - 200 := ⟨(st.s - 200).toNat, by omega⟩
  have lw : st.s ≤ 201 → tLw F g m la Cl C w := fun h2 => by
    rcases (by omega : w = 0 ∨ w = 1) with y | y
    · subst y; exact w0
    · subst y; exact w1
  have eN : (st.s - 200).toNat = w := by omega
  rw [eN] at H1 H2
  by_cases htw : st.s ≤ 201 ∧ aHas Cl (st.s - 200) = true
  · right; left
    rcases lw htw.1 with ⟨q, -⟩ | ⟨-, p, i, c, q, -⟩
    · rw [ew, htw.2] at q; cases q
    · obtain ⟨r, e, k⟩ := H1 htw.1 p q
      refine ⟨4, st.p, r, ?_, e, cX.tr h2 h51 h52 k (by omega) (by omega)⟩
      unfold aCla
      dsimp only
      rw [if_neg e301, if_neg hr, if_pos htw]
  have hf : st.s ≤ 201 → aHas Cl (w : Int) = false := fun h2 => by
    rw [ew]
    cases e : aHas Cl (st.s - 200) with
    | false => rfl
    | true => exact absurd ⟨h2, e⟩ htw
  obtain ⟨H3, H4⟩ := H2 (fun h2 => by
    rcases lw h2 with ⟨-, q⟩ | ⟨q, -⟩
    · exact q
    · rw [hf h2] at q; cases q)
  by_cases h24 : (Cl.length : Int) = 24
  · right; left
    obtain ⟨r, e, k⟩ := H3 h24
    refine ⟨6, st.p, r, ?_, e, cX.tr h2 h51 h52 k (by omega) (by omega)⟩
    unfold aCla
    dsimp only
    rw [if_neg e301, if_neg hr, if_neg htw, if_pos h24]
  have hc24 : Cl.length < 24 := by omega
  obtain ⟨m1, en, fn, hS1⟩ := cS_next hb n300 (cS_kd h1 h1.2.1.2.2.1) h3
  obtain ⟨v1, v2, v3⟩ := vN (tp := tp) h3
  have hpa := h3.2.1 e301
  obtain ⟨s1, es1⟩ : ∃ s1, s1 = aNx (lx tp n) st := ⟨_, rfl⟩
  rw [← es1] at hS1 v1 v2 v3
  have I1 := rI_t h hτ hB0 hS1 (tkF.up.tr fn) v1 (by omega) (by omega)
  have step := H4 h24 m1 en hS1.2.1.2.2.2.2.2
  have ac : aCla (lx tp n) (Cl, C, st) = (aBody (lx tp n) st.s C s1).bind fun r => match r with
    | .inr f => some (.inl (.inl f))
    | .inl x => match aWt (lx tp n) 59 x.2.2 with
      | .inr f => some (.inl (.inl f))
      | .inl s => some (.inr (Cl ++ [(st.s - 200, x.1.1, x.1.2)], x.2.1, s)) := by
    unfold aCla
    dsimp only
    rw [if_neg e301, if_neg hr, if_neg htw, if_neg h24, ← es1]
    rfl
  right
  have fin : ∀ (a b : Int) (C2 : aC) (s2 : aSt) (xs2 : List Nat) (F2 : Nat → Prop) (g2 : zGd) (m2 : zMm), aBody (lx tp n) st.s C s1 = some (.inl ((a, b), C2, s2)) → rI τ ta n tp g0 m0 x la ld st.s (Cl.length : Int) (Cl ++ [(st.s - 200, a, b)]) C2 xs2 F2 g2 m2 s2 → s1.p < s2.p → (st.s ≤ 201 → rdS (some τ) (some x) g m1 = some (.inr (g2, m2))) → (201 < st.s → rdA (some τ) (some x) g m1 = some (.inr (g2, m2))) →
    (∃ fl pl r, aCla (lx tp n) (Cl, C, st) = some (.inl (.inl (fl, pl))) ∧ b_X3_read_12 (some τ) (some x) (g, m) = some (.inl (.inl (.inr r))) ∧ cX τ g0 m0 (50 * n + 60) (60 * (50 * n + 60)) fl pl r) ∨
    ∃ Cl' C' xs' F' g' m' st' kd', aCla (lx tp n) (Cl, C, st) = some (.inr (Cl', C', st')) ∧ b_X3_read_12 (some τ) (some x) (g, m) = some (.inr (g', m')) ∧ rI τ ta n tp g0 m0 x la ld kd' (Cl'.length : Int) Cl' C' xs' F' g' m' st' ∧ st.p < st'.p := by
    intro a b C2 s2 xs2 F2 g2 m2 eb I2 hp eS eA
    have ac2 : aCla (lx tp n) (Cl, C, st) = match aWt (lx tp n) 59 s2 with
      | .inr f => some (.inl (.inl f))
      | .inl s => some (.inr (Cl ++ [(st.s - 200, a, b)], C2, s)) := by
      rw [ac, eb]; rfl
    rcases rd_tail hb n300 I2 hτ hta hB0 (by omega) with ⟨m', t1, t2, t3, t4⟩ | ⟨r, t1, t2, t3⟩
    · right
      refine ⟨Cl ++ [(st.s - 200, a, b)], C2, xs2, F2, g2, m', aNx (lx tp n) s2, st.s, ?_, step (.inr (g2, m')) (fun y => ?_) (fun y => ?_), ?_, by omega⟩
      · rw [ac2, t1]
      · rw [eS y]; exact t2
      · rw [eA y]; exact t2
      · have e : (((Cl ++ [(st.s - 200, a, b)]).length : Nat) : Int) = (Cl.length : Int) + 1 := by rw [List.length_append, List.length_singleton]; omega
        rw [e]; exact t3
    · left
      have i2 := I2.1.2.2.1.1
      have i5 := I2.1.2.2.2.2.1
      refine ⟨1, s2.p, r, ?_, step (.inl (.inl (.inr r))) (fun y => ?_) (fun y => ?_), cX.tr I2.1.2.1 i5.1 i5.2 t3 (by omega) (by omega)⟩
      · rw [ac2, t1]
      · rw [eS y]; exact t2
      · rw [eA y]; exact t2
  have i5 := I1.1.2.2.2.2.1
  by_cases h2' : st.s ≤ 201
  · rcases rd_sum hb n300 I1 hτ hta hB0 (w := w) (by omega) (by omega) (hf h2') hc24 with ⟨L, s2, g2, m2, F', a1, a2, a3, a4⟩ | ⟨fl, pl, r, a1, a2, a3, a4⟩
    · refine fin (C.length : Int) ((C ++ L).length : Int) (C ++ L) s2 xs F' g2 m2 ?_ (by rw [← ew]; exact a3) a4 (fun _ => a2) (fun y => absurd y (by omega))
      unfold aBody
      rw [if_pos h2', a1]; rfl
    · left
      have hpl := ((aTk_p (tp := tp) (kd := st.s) 80).2.2.2.2.2.2 s1 v1).1 _ a1
      have hpl : pl ≤ n := hpl
      refine ⟨fl, pl, r, ?_, step (.inl (.inl (.inr r))) (fun _ => by rw [a2]; rfl) (fun y => absurd y (by omega)), cX.tr I1.1.2.1 i5.1 i5.2 a3 (by omega) (by omega)⟩
      rw [ac]
      unfold aBody
      rw [if_pos h2', a1]; rfl
  · rcases rd_do hb n300 I1 hτ hta hB0 (by omega) rfl hc24 with ⟨a, b, s2, g2, m2, F', xs', a1, a2, a3, a4⟩ | ⟨fl, pl, r, a1, a2, a3, a4, a5⟩
    · refine fin a b C s2 xs' F' g2 m2 ?_ a3 a4 (fun y => absurd y h2') (fun _ => a2)
      unfold aBody
      rw [if_neg h2', a1]; rfl
    · left
      refine ⟨fl, pl, r, ?_, step (.inl (.inl (.inr r))) (fun y => absurd y h2') (fun _ => by rw [a2]; rfl), cX.tr I1.1.2.1 i5.1 i5.2 a3 (by omega) (by omega)⟩
      rw [ac]
      unfold aBody
      rw [if_neg h2', a1]; rfl
theorem rd_loop (hb : ∀ i, 0 ≤ i → i < n → 0 ≤ tp i ∧ tp i ≤ 255) (n300 : n ≤ 300) (hτ : τ < zZ g0) (hta : ta < zZ g0) (hB0 : zB g0 ≤ zZ g0) : ∀ (k Fu : Nat) (kd : Int) (Cl : List aCl) (C : aC) (xs : List Nat) (F : Nat → Prop) (g : zGd) (m : zMm) (st : aSt), (n - st.p).toNat ≤ k → k < Fu → rI τ ta n tp g0 m0 x la ld kd (Cl.length : Int) Cl C xs F g m st →
    (∃ Cl' C' xs' F' g' m' st' kd', zLoop (aCla (lx tp n)) Fu (Cl, C, st) = some (.inr (Cl', C', st')) ∧ zLoop (b_X3_read_12 (some τ) (some x)) Fu (g, m) = some (.inr (g', m')) ∧ rI τ ta n tp g0 m0 x la ld kd' (Cl'.length : Int) Cl' C' xs' F' g' m' st') ∨
    ∃ fl pl r, zLoop (aCla (lx tp n)) Fu (Cl, C, st) = some (.inl (fl, pl)) ∧ zLoop (b_X3_read_12 (some τ) (some x)) Fu (g, m) = some (.inl (.inr r)) ∧ cX τ g0 m0 (50 * n + 60) (60 * (50 * n + 60)) fl pl r := by
  intro k
  induction k with
  | zero =>
    intro Fu kd Cl C xs F g m st hk hF h
    obtain ⟨Fu, rfl⟩ : ∃ F', Fu = F' + 1 := ⟨Fu - 1, by omega⟩
    rcases rd_step hb n300 h hτ hta hB0 with ⟨a1, a2⟩ | ⟨fl, pl, r, a1, a2, a3⟩ | ⟨Cl', C', xs', F', g', m', st', kd', a1, a2, a3, a4⟩
    · exact Or.inl ⟨Cl, C, xs, F, g, m, st, kd, zLoop_l a1, zLoop_l a2, h⟩
    · exact Or.inr ⟨fl, pl, r, zLoop_l a1, zLoop_l a2, a3⟩
    · exfalso
      have := a3.1.2.2.1.1
      omega
  | succ k ih =>
    intro Fu kd Cl C xs F g m st hk hF h
    obtain ⟨Fu, rfl⟩ : ∃ F', Fu = F' + 1 := ⟨Fu - 1, by omega⟩
    rcases rd_step hb n300 h hτ hta hB0 with ⟨a1, a2⟩ | ⟨fl, pl, r, a1, a2, a3⟩ | ⟨Cl', C', xs', F', g', m', st', kd', a1, a2, a3, a4⟩
    · exact Or.inl ⟨Cl, C, xs, F, g, m, st, kd, zLoop_l a1, zLoop_l a2, h⟩
    · exact Or.inr ⟨fl, pl, r, zLoop_l a1, zLoop_l a2, a3⟩
    · rw [zLoop_r a1, zLoop_r a2]
      have := h.1.2.2.1.1
      exact ih Fu kd' Cl' C' xs' F' g' m' st' (by omega) (by omega) a3
end
