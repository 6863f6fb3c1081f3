/-! READING: the model's one step -/
set_option maxRecDepth 100000
def bTail (T : zP) (a b : Int) : Option (Int × zP) := (p_X2_emit T a b).bind fun S39 => (p_X2_nextToken S39).bind fun S40 => (p_X2_settle (pup S40 0 18 1) 7).bind fun S42 => some (0, S42)
def bBeg (kd : Int) (P : List Int) (st : aSt) (T : zP) : Option (Int × zP) :=
  if st.s = 300 then (if T 0 10 ≤ 9999 then bTail T 0 (T 0 10) else some (2, T))
  else if 0 ≤ aNm st.s then (if aMy kd (aNm st.s) = true then bTail T 1 (aNm st.s) else some (5, T))
  else if st.s = 40 then p_X2_opened T 40 else if st.s = 45 then p_X2_opened T 5 else if st.s = 211 then p_X2_opened T 2 else if st.s = 212 then p_X2_opened T 4 else if st.s = 213 then p_X2_opened T 41
  else if st.s = 219 then (if aA P = 0 then some (1, T) else p_X2_opened T 20) else some (1, T)
section
variable {E0 T : zP} {lx : Int → Int × Int × Int × Int} {tx nn kd : Int} {st : aSt} {P : List Int} {o w : Int} {C : aC}
theorem bind_eta {x : Option (Int × zP)} : (x.bind fun (v, S) => (some (.inl (v, S)) : Option ((Int × zP) ⊕ Unit))) = x.bind fun y => some (.inl y) := by
  cases x <;> rfl
theorem zEx_inl {x : Option (Int × zP)} {K : Unit → Option (Int × zP)} : zEx (x.bind fun y => some (.inl y)) K = x := by
  cases x <;> rfl
theorem k_isOf (hk : kd = 200 ∨ kd = 201) (h14 : T 0 14 = kd - 200) {k : Int} (k0 : 0 ≤ k) (k6 : k ≤ 6) : p_X2_isOf T k = some (if aMy kd k = true then 1 else 0) := by
  unfold p_X2_isOf aMy
  dsimp only [zlt]
  rw [h14]
  simp only [decide_eq_true_eq]
  by_cases h5 : k < 5
  · rw [if_pos h5, if_pos (Or.inl h5)]
  · rw [if_neg h5]
    by_cases h6 : k = 5
    · rw [if_pos h6]
      rcases hk with hk | hk
      · rw [if_pos (by omega), if_pos (Or.inr (Or.inl ⟨h6, hk⟩))]
      · rw [if_neg (by omega), if_neg (by omega)]
    · rw [if_neg h6]
      rcases hk with hk | hk
      · rw [if_neg (by omega), if_neg (by omega)]
      · rw [if_pos (by omega), if_pos (Or.inr (Or.inr ⟨h6, by omega⟩))]
set_option maxHeartbeats 2000000 in
theorem k_begin (hE14 : E0 0 14 = kd - 200) (hk : kd = 200 ∨ kd = 201) (h : mS E0 tx st P o w C T) (hP : P.length < 150) : p_X2_beginOne T = bBeg kd P st T := by
  have hR := h.1
  have h14 : T 0 14 = kd - 200 := (h.2.1.2.1 14 (by omega)).trans hE14
  have r300 := hR.2.2.2.1
  have rc := hR.2.2.2.2.2.1
  have r40 := rc 40 (by decide)
  have r45 := rc 45 (by decide)
  have rw' := hR.2.2.2.2.2.2.2.2.1
  have w211 := k_isWord hR (a := 211) (b := 107079749563251) (by decide)
  have w212 := k_isWord hR (a := 212) (b := 124749094479218) (by decide)
  have w213 := k_isWord hR (a := 213) (b := 26982) (by decide)
  have w219 := k_isWord hR (a := 219) (b := 7237492) (by decide)
  have hn := k_nameOf hR
  unfold p_X2_beginOne bBeg
  dsimp only [zlt]
  by_cases h300 : st.s = 300
  · have e9 : T 0 9 = 1 := r300.mpr h300
    rw [if_pos h300, if_pos e9]
    by_cases hb : T 0 10 ≤ 9999
    · rw [if_pos hb, if_pos hb]
      have en : aNm st.s = -1 := by rw [h300]; rfl
      rw [hn, en]
      unfold zEx
      dsimp only [Option.bind_some]
      rw [if_pos (show (-1 : Int) < 0 by omega)]
      dsimp only [Option.bind_some]
      rw [if_pos e9]
      dsimp only [Option.bind_some]
      rw [if_pos e9]
      dsimp only [Option.bind_some]
      rw [if_pos e9]
      dsimp only [Option.bind_some]
      rfl
    · rw [if_neg hb, if_neg hb]; rfl
  · have e9 : T 0 9 ≠ 1 := fun x => h300 (r300.mp x)
    rw [if_neg h300, if_neg e9, hn]
    unfold zEx
    dsimp only [Option.bind_some]
    by_cases hnm : 0 ≤ aNm st.s
    · have h6 : aNm st.s ≤ 6 := by
        unfold aNm
        repeat' split
        all_goals omega
      rw [if_pos hnm, if_neg (show ¬ aNm st.s < 0 by omega), k_isOf hk h14 hnm h6]
      dsimp only [Option.bind_some]
      by_cases hm : aMy kd (aNm st.s) = true
      · simp only [if_pos hm]
        rw [if_neg (show ¬ (1 : Int) = 0 by omega)]
        dsimp only [Option.bind_some]
        rw [if_neg e9, if_neg (show ¬ aNm st.s < 0 by omega)]
        dsimp only [Option.bind_some]
        rw [if_neg e9]
        dsimp only [Option.bind_some]
        rw [if_neg e9]
        dsimp only [Option.bind_some]
        rfl
      · simp only [if_neg hm]
        rfl
    · rw [if_neg hnm, if_pos (show aNm st.s < 0 by omega)]
      dsimp only [Option.bind_some]
      rw [if_neg e9, if_pos (show aNm st.s < 0 by omega), w_across, w_quiver, w_if, w_not]
      dsimp only [Option.bind_some]
      rw [w211, w212, w213, w219, k_ahead h hP]
      dsimp only [Option.bind_some]
      have fin : ∀ (x : Option (Int × zP)) (K : (Int × zP) ⊕ Unit → Option (Int × zP)), (∀ y, K (.inl y) = some y) → ((x.bind fun y => (some (.inl y) : Option ((Int × zP) ⊕ Unit))).bind K) = x := fun x K hK => by
        cases x with
        | none => rfl
        | some y => exact hK y
      by_cases h40 : st.s = 40
      · rw [if_pos h40, if_pos (r40.mpr h40)]
        exact fin _ _ (fun _ => rfl)
      rw [if_neg h40, if_neg (fun x => h40 (r40.mp x))]
      by_cases h45 : st.s = 45
      · rw [if_pos h45, if_pos (r45.mpr h45)]
        exact fin _ _ (fun _ => rfl)
      rw [if_neg h45, if_neg (fun x => h45 (r45.mp x))]
      by_cases h211 : st.s = 211
      · simp only [if_pos h211]
        rw [if_neg (show ¬ (1 : Int) = 0 by omega)]
        exact fin _ _ (fun _ => rfl)
      simp only [if_neg h211]
      rw [if_pos trivial]
      by_cases h212 : st.s = 212
      · simp only [if_pos h212]
        rw [if_neg (show ¬ (1 : Int) = 0 by omega)]
        exact fin _ _ (fun _ => rfl)
      simp only [if_neg h212]
      rw [if_pos trivial]
      by_cases h213 : st.s = 213
      · simp only [if_pos h213]
        rw [if_neg (show ¬ (1 : Int) = 0 by omega)]
        exact fin _ _ (fun _ => rfl)
      simp only [if_neg h213]
      rw [if_pos trivial]
      by_cases h219 : st.s = 219
      · simp only [if_pos h219]
        rw [if_neg (show ¬ (1 : Int) = 0 by omega)]
        by_cases ha : aA P = 0
        · rw [if_pos ha, if_pos ha]; rfl
        · rw [if_neg ha, if_neg ha]
          exact fin _ _ (fun _ => rfl)
      · simp only [if_neg h219]
        rw [if_pos trivial]; rfl
def bt (s on cp : Int) : Int := if s = 43 then 6 else if s = 45 then 7 else if s = 42 then 8 else if s = 47 then 9 else if on = 41 then (if cp = 0 then aCm s else if s = 218 then 21 else if s = 217 then 22 else -1) else -1
def pt (s on cp : Int) : Int := if on = 40 then (if s = 41 then 0 else -1) else if on = 41 then (if s = 214 then (if cp = 0 then -1 else 42) else -1) else if on = 42 then (if s = 215 then 43 else -1) else if on = 43 then (if s = 216 then 0 else -1) else -1
theorem k_between (h : mS E0 tx st P o w C T) (hP : P.length < 150) : p_X2_betweenOf T = some (bt st.s (oN P) (cP P)) := by
  have hR := h.1
  have rc := hR.2.2.2.2.2.1
  have r43 := rc 43 (by decide)
  have r45 := rc 45 (by decide)
  have r42 := rc 42 (by decide)
  have r47 := rc 47 (by decide)
  have r60 := rc 60 (by decide)
  have r62 := rc 62 (by decide)
  have r61 := rc 61 (by decide)
  have r35 := rc 35 (by decide)
  have r4 := hR.2.2.2.2.2.2.1
  have r5 := hR.2.2.2.2.2.2.2.1
  have w218 := k_isWord hR (a := 218) (b := 6385252) (by decide)
  have w217 := k_isWord hR (a := 217) (b := 28530) (by decide)
  have hc : p_X2_compareOf T = some (aCm st.s) := by
    unfold p_X2_compareOf aCm
    dsimp only [zlt]
    simp only [r60, r4, r62, r5, r61, r35]
    repeat' split
    all_goals rfl
  unfold p_X2_betweenOf bt
  dsimp only [zlt]
  simp only [r43, r45, r42, r47]
  rw [k_openNow h hP, k_isCompared h hP, hc, w_and, w_or]
  dsimp only [Option.bind_some]
  rw [w218, w217]
  dsimp only [Option.bind_some]
  by_cases h43 : st.s = 43
  · rw [if_pos h43, if_pos h43]
  rw [if_neg h43, if_neg h43]
  by_cases h45 : st.s = 45
  · rw [if_pos h45, if_pos h45]
  rw [if_neg h45, if_neg h45]
  by_cases h42 : st.s = 42
  · rw [if_pos h42, if_pos h42]
  rw [if_neg h42, if_neg h42]
  by_cases h47 : st.s = 47
  · rw [if_pos h47, if_pos h47]
  rw [if_neg h47, if_neg h47]
  by_cases hon : oN P = 41
  · rw [if_pos hon, if_pos hon]
    by_cases hcp : cP P = 0
    · rw [if_pos hcp, if_pos hcp]
    · rw [if_neg hcp, if_neg hcp]
      by_cases h218 : st.s = 218
      · simp only [if_pos h218]; rfl
      · simp only [if_neg h218]
        by_cases h217 : st.s = 217
        · simp only [if_pos h217]; rfl
        · simp only [if_neg h217]; rfl
  · rw [if_neg hon, if_neg hon]
theorem k_part (h : mS E0 tx st P o w C T) (hP : P.length < 150) : p_X2_partOf T (oN P) = some (pt st.s (oN P) (cP P)) := by
  have hR := h.1
  have r41 := hR.2.2.2.2.2.1 41 (by decide)
  have w214 := k_isWord hR (a := 214) (b := 1952998766) (by decide)
  have w215 := k_isWord hR (a := 215) (b := 1701606245) (by decide)
  have w216 := k_isWord hR (a := 216) (b := 6647396) (by decide)
  unfold p_X2_partOf pt
  dsimp only [zlt]
  rw [k_isCompared h hP, w_then, w_else, w_end]
  dsimp only [Option.bind_some]
  rw [w214, w215, w216]
  dsimp only [Option.bind_some]
  simp only [r41]
  by_cases h40 : oN P = 40
  · rw [if_pos h40, if_pos h40]
    split <;> rfl
  rw [if_neg h40, if_neg h40]
  by_cases h41 : oN P = 41
  · rw [if_pos h41, if_pos h41]
    by_cases h214 : st.s = 214
    · simp only [if_pos h214]
      rw [if_neg (show ¬ (1 : Int) = 0 by omega)]
      split <;> rfl
    · simp only [if_neg h214]; rfl
  rw [if_neg h41, if_neg h41]
  by_cases h42 : oN P = 42
  · rw [if_pos h42, if_pos h42]
    by_cases h215 : st.s = 215
    · simp only [if_pos h215]; rfl
    · simp only [if_neg h215]; rfl
  rw [if_neg h42, if_neg h42]
  by_cases h43 : oN P = 43
  · rw [if_pos h43, if_pos h43]
    by_cases h216 : st.s = 216
    · simp only [if_pos h216]; rfl
    · simp only [if_neg h216]; rfl
  rw [if_neg h43, if_neg h43]
/-! steps of the loop -/
theorem s_begin (h : mS E0 tx st P o 0 C T) {v : Int} {T' : zP} (e : p_X2_beginOne T = some (v, T')) : pb_X2_summed_15 T = if v = 0 then some (.inr T') else some (.inl (v, T')) := by
  have e18 : T 0 18 = 0 := h.2.2.2.2.2.1
  unfold pb_X2_summed_15
  dsimp only [zlt]
  rw [if_pos e18, e]
  rfl
theorem s_tail (hl : aLx lx E0 nn) (hE : E0 0 12 = tx) (t0 : 0 ≤ tx) (t1 : tx ≤ 2043) (U : List Int) (h : mS E0 tx st (U ++ P) o w C T) (hv : aV nn st) (hU : ∀ x ∈ U, 7 ≤ rk x) (hp : lowP 7 P) (hP : (U ++ P).length < 150) (hC : C.length + U.length ≤ 302) (ho : 0 ≤ o) (ho2 : o ≤ 1000) (hoc : cntU U ≤ o) (a b : Int) : ∃ T', bTail T a b = some (0, T') ∧ mS E0 tx (aNx lx st) P (o - cntU U) 1 (C ++ [(a, b)] ++ emz U) T' := by
  obtain ⟨T1, e1, h1⟩ := k_nx hl (mS_emit h (by omega) a b) hv
  obtain ⟨T2, e2, h2⟩ := k_settle hE t0 t1 (q := 7) (by omega) U (mS_w h1 1) hU hp hP (by rw [List.length_append, List.length_singleton]; omega) (by omega) ho2
  refine ⟨T2, ?_, h2⟩
  unfold bTail
  rw [k_emit hE t0 t1 h (by omega)]
  dsimp only [Option.bind_some]
  rw [e1]
  dsimp only [Option.bind_some]
  rw [e2]; rfl
/-- between two: the sign is set -/
theorem s_between (hl : aLx lx E0 nn) (hE : E0 0 12 = tx) (t0 : 0 ≤ tx) (t1 : tx ≤ 2043) (R : List Int) {x q : Int} (h : mS E0 tx st (R ++ P) o 1 C T) (hv : aV nn st) (hx : bt st.s (oN (R ++ P)) (cP (R ++ P)) = x) (x0 : 0 ≤ x) (hq : q = if rk x = 4 then 5 else rk x) (q1 : 1 ≤ q) (hR : ∀ y ∈ R, q ≤ rk y) (hp : lowP q P) (hP : (R ++ P).length < 149) (hC : C.length + R.length ≤ 303) (ho : 0 ≤ o) (ho2 : o ≤ 1000) (hoc : cntU R ≤ o) : ∃ T', pb_X2_summed_15 T = some (.inr T') ∧ mS E0 tx (aNx lx st) (x :: P) (o - cntU R) 0 (C ++ emz R) T' := by
  have e18 : T 0 18 = 1 := h.2.2.2.2.2.1
  obtain ⟨T1, e1, h1⟩ := k_settle hE t0 t1 q1 R h hR hp (by omega) hC (by omega) ho2
  have hpl : P.length < 149 := by rw [List.length_append] at hP; omega
  have e16 : T1 0 16 = (P.length : Int) := h1.2.2.2.1
  obtain ⟨T2, e2, h2⟩ := k_nx hl (mS_w (mS_push h1 x) 0) hv
  refine ⟨T2, ?_, h2⟩
  have eb : p_X2_behindOne T = some (1, T2) := by
    unfold p_X2_behindOne
    rw [k_between h (by omega), hx]
    dsimp only [Option.bind_some]
    rw [if_neg (by omega), k_rank]
    dsimp only [Option.bind_some]
    have e3 : ((if rk x = 4 then (some (5)) else (some (rk x)) : Option Int)) = some q := by
      rw [hq]
      split <;> rfl
    rw [e3]
    dsimp only [Option.bind_some]
    rw [e1]
    dsimp only [Option.bind_some, zlt]
    rw [e16]
    have e4 : past T1 5 160 (P.length : Int) x = some (pup T1 5 (P.length : Int) x) := if_pos (by omega)
    rw [e4]
    dsimp only [Option.bind_some]
    rw [pup_c (by omega), e16, p32_n (by omega) (by omega), e2]
    rfl
  unfold pb_X2_summed_15
  dsimp only [zlt]
  rw [if_neg (by omega), eb]
  rfl
/-- what waits goes on: then, else -/
theorem s_part (hl : aLx lx E0 nn) (hE : E0 0 12 = tx) (t0 : 0 ≤ tx) (t1 : tx ≤ 2043) (R : List Int) {x y : Int} (h : mS E0 tx st (R ++ y :: P) o 1 C T) (hv : aV nn st) (hb : bt st.s (oN (R ++ y :: P)) (cP (R ++ y :: P)) = -1) (hx : pt st.s (oN (R ++ y :: P)) (cP (R ++ y :: P)) = x) (x0 : 0 < x) (hy : 40 ≤ y) (hR : ∀ y ∈ R, 1 ≤ rk y) (hP : (R ++ y :: P).length < 149) (hC : C.length + R.length ≤ 303) (ho : 0 ≤ o) (ho2 : o ≤ 1000) (hoc : cntU R ≤ o) : ∃ T', pb_X2_summed_15 T = some (.inr T') ∧ mS E0 tx (aNx lx st) (x :: P) (o - cntU R) 0 (C ++ emz R) T' := by
  have e18 : T 0 18 = 1 := h.2.2.2.2.2.1
  have hy0 : rk y = 0 := by unfold rk; rw [if_pos hy]
  obtain ⟨T1, e1, h1⟩ := k_settle hE t0 t1 (q := 1) (by omega) R h hR (by show rk y < 1; omega) (by omega) hC (by omega) ho2
  have hpl : P.length < 148 := by rw [List.length_append, List.length_cons] at hP; omega
  obtain ⟨T2, e2, h2⟩ := k_nx hl h1 hv
  have h3 : mS E0 tx (aNx lx st) (x :: P) (o - cntU R) 0 (C ++ emz R) (pup (pup T2 5 (P.length : Int) x) 0 18 0) := by
    have hA := mS_push (mS_pop h2) x
    have e : pup (pup (pup T2 0 16 (P.length : Int)) 5 (P.length : Int) x) 0 16 ((P.length : Int) + 1) = pup T2 5 (P.length : Int) x := by
      have e16 : T2 0 16 = (P.length : Int) + 1 := by
        have := h2.2.2.2.1
        rw [List.length_cons] at this; omega
      funext c i
      by_cases hc : c = 0
      · subst hc
        by_cases hi : i = 16
        · subst hi
          rw [pup_e rfl, pup_c (by omega), e16]
        · rw [pup_k hi, pup_c (by omega), pup_k hi, pup_c (by omega)]
      · rw [pup_c hc]
        by_cases hc5 : c = 5
        · subst hc5
          by_cases hi : i = (P.length : Int)
          · rw [hi, pup_e rfl, pup_e rfl]
          · rw [pup_k hi, pup_k hi, pup_c hc]
        · rw [pup_c hc5, pup_c hc5, pup_c hc]
    rw [e] at hA
    exact mS_w hA 0
  refine ⟨_, ?_, h3⟩
  have eb : p_X2_behindOne T = some (1, pup (pup T2 5 (P.length : Int) x) 0 18 0) := by
    unfold p_X2_behindOne
    rw [k_between h (by omega), hb]
    dsimp only [Option.bind_some]
    rw [if_pos (by omega), k_openNow h (by omega)]
    dsimp only [Option.bind_some]
    rw [k_part h (by omega), hx]
    dsimp only [Option.bind_some]
    rw [if_pos (by omega), e1]
    dsimp only [Option.bind_some]
    rw [e2]
    dsimp only [Option.bind_some]
    have eA : oA (y :: P) = (P.length : Int) := if_pos hy
    rw [if_neg (by omega), k_openAt' h2 (by rw [List.length_cons]; omega), eA]
    dsimp only [Option.bind_some]
    have e4 : past T2 5 160 (P.length : Int) x = some (pup T2 5 (P.length : Int) x) := if_pos (by omega)
    rw [e4]
    rfl
  unfold pb_X2_summed_15
  dsimp only [zlt]
  rw [if_neg (by omega), eb]
  rfl
/-- what waits is shut -/
theorem s_shut (hl : aLx lx E0 nn) (hE : E0 0 12 = tx) (t0 : 0 ≤ tx) (t1 : tx ≤ 2043) (R U : List Int) {y : Int} (h : mS E0 tx st (R ++ y :: (U ++ P)) o 1 C T) (hv : aV nn st) (hb : bt st.s (oN (R ++ y :: (U ++ P))) (cP (R ++ y :: (U ++ P))) = -1) (hx : pt st.s (oN (R ++ y :: (U ++ P))) (cP (R ++ y :: (U ++ P))) = 0) (hon : oN (R ++ y :: (U ++ P)) = y) (hy : 40 ≤ y) (hR : ∀ y ∈ R, 1 ≤ rk y) (hU : ∀ x ∈ U, 7 ≤ rk x) (hp : lowP 7 P) (hP : (R ++ y :: (U ++ P)).length < 149) (hC : C.length + R.length + U.length ≤ 302) (ho2 : o ≤ 1000) (hoc : cntU R + 1 + cntU U ≤ o) : ∃ T', pb_X2_summed_15 T = some (.inr T') ∧ mS E0 tx (aNx lx st) P (o - cntU R - 1 - cntU U) 1 (C ++ emz R ++ (if y = 43 then [(3, 0)] else []) ++ emz U) T' := by
  have e18 : T 0 18 = 1 := h.2.2.2.2.2.1
  have hy0 : rk y = 0 := by unfold rk; rw [if_pos hy]
  have c0 := cnt_0 R
  have c1 := cnt_0 U
  obtain ⟨T1, e1, h1⟩ := k_settle hE t0 t1 (q := 1) (by omega) R h hR (by show rk y < 1; omega) (by omega) (by omega) (by omega) ho2
  have hpl : (U ++ P).length < 148 := by rw [List.length_append, List.length_cons] at hP; omega
  have hem : (emz R).length = R.length := List.length_map _
  obtain ⟨T2, e2, h2⟩ := k_nx hl h1 hv
  have e17 : T2 0 17 = o - cntU R := h2.2.2.2.2.1
  have e16 : T2 0 16 = ((U ++ P).length : Int) + 1 := by
    have := h2.2.2.2.1
    rw [List.length_cons] at this; omega
  have h3 := mS_pop (mS_o h2 (o - cntU R - 1))
  obtain ⟨T3, eT3⟩ : ∃ T3, T3 = pup (pup T2 0 17 (o - cntU R - 1)) 0 16 ((U ++ P).length : Int) := ⟨_, rfl⟩
  rw [← eT3] at h3
  have step : ∃ T4, ((if y = 43 then ((p_X2_emit T3 3 0).bind fun S12 => some (S12)) else (some (T3)) : Option zP)) = some T4 ∧ mS E0 tx (aNx lx st) (U ++ P) (o - cntU R - 1) 1 (C ++ emz R ++ (if y = 43 then [(3, 0)] else [])) T4 := by
    by_cases h43 : y = 43
    · rw [if_pos h43, if_pos h43, k_emit hE t0 t1 h3 (by rw [List.length_append]; omega)]
      exact ⟨_, rfl, mS_emit h3 (by rw [List.length_append]; omega) 3 0⟩
    · rw [if_neg h43, if_neg h43, List.append_nil]
      exact ⟨_, rfl, h3⟩
  obtain ⟨T4, e4, h4⟩ := step
  obtain ⟨T5, e5, h5⟩ := k_settle hE t0 t1 (q := 7) (by omega) U h4 hU hp (by omega) (by
    rw [List.length_append, List.length_append]
    split
    · rw [List.length_singleton]; omega
    · rw [List.length_nil]; omega) (by omega) (by omega)
  refine ⟨T5, ?_, h5⟩
  have eb : p_X2_behindOne T = some (1, T5) := by
    unfold p_X2_behindOne
    rw [k_between h (by omega), hb]
    dsimp only [Option.bind_some]
    rw [if_pos (by omega), k_openNow h (by omega)]
    dsimp only [Option.bind_some]
    rw [k_part h (by omega), hx]
    dsimp only [Option.bind_some]
    rw [if_pos (by omega), e1]
    dsimp only [Option.bind_some]
    rw [e2]
    dsimp only [Option.bind_some, zlt]
    rw [if_pos (by omega), e17, p32_n (by omega) (by omega), pup_k (by omega), e16, p32_n (by omega) (by omega), show ((U ++ P).length : Int) + 1 - 1 = ((U ++ P).length : Int) by omega, ← eT3, hon, e4]
    dsimp only [Option.bind_some]
    rw [e5]
    rfl
  unfold pb_X2_summed_15
  dsimp only [zlt]
  rw [if_neg (by omega), eb]
  rfl
/-- nothing goes on here -/
theorem s_none (h : mS E0 tx st P o 1 C T) (hP : P.length < 149) (hb : bt st.s (oN P) (cP P) = -1) (hx : pt st.s (oN P) (cP P) = -1) (hon : 0 ≤ oN P) : pb_X2_summed_15 T = some (.inl (1, T)) := by
  have e18 : T 0 18 = 1 := h.2.2.2.2.2.1
  have eb : p_X2_behindOne T = some (0, T) := by
    unfold p_X2_behindOne
    rw [k_between h (by omega), hb]
    dsimp only [Option.bind_some]
    rw [if_pos (by omega), k_openNow h (by omega)]
    dsimp only [Option.bind_some]
    rw [k_part h (by omega), hx]
    dsimp only [Option.bind_some]
    rw [if_neg (by omega)]
  unfold pb_X2_summed_15
  dsimp only [zlt]
  rw [if_neg (by omega), eb]
  dsimp only [Option.bind_some]
  rw [if_pos rfl, k_openNow h (by omega)]
  dsimp only [Option.bind_some]
  rw [if_neg (by omega)]
theorem s_end (hE : E0 0 12 = tx) (t0 : 0 ≤ tx) (t1 : tx ≤ 2043) (R : List Int) (h : mS E0 tx st (R ++ []) o 1 C T) (hR : ∀ y ∈ R, 1 ≤ rk y) (hP : (R ++ ([] : List Int)).length < 149) (hb : bt st.s (oN (R ++ [])) (cP (R ++ [])) = -1) (hon : oN (R ++ []) = -1) (hC : C.length + R.length ≤ 303) (ho2 : o ≤ 1000) (hoc : cntU R ≤ o) : ∃ T', pb_X2_summed_15 T = some (.inl (0, T')) ∧ mS E0 tx st [] (o - cntU R) 1 (C ++ emz R) T' := by
  have e18 : T 0 18 = 1 := h.2.2.2.2.2.1
  have c0 := cnt_0 R
  rw [List.append_nil] at hP
  have hx : pt st.s (oN (R ++ [])) (cP (R ++ [])) = -1 := by
    rw [hon]; unfold pt
    rw [if_neg (by omega), if_neg (by omega), if_neg (by omega), if_neg (by omega)]
  have hP' : (R ++ ([] : List Int)).length < 149 := by rw [List.append_nil]; exact hP
  obtain ⟨T1, e1, h1⟩ := k_settle hE t0 t1 (q := 1) (by omega) R h hR trivial (by omega) hC (by omega) ho2
  refine ⟨T1, ?_, h1⟩
  have eb : p_X2_behindOne T = some (0, T) := by
    unfold p_X2_behindOne
    rw [k_between h (by omega), hb]
    dsimp only [Option.bind_some]
    rw [if_pos (by omega), k_openNow h (by omega)]
    dsimp only [Option.bind_some]
    rw [k_part h (by omega), hx]
    dsimp only [Option.bind_some]
    rw [if_neg (by omega)]
  unfold pb_X2_summed_15
  dsimp only [zlt]
  rw [if_neg (by omega), eb]
  dsimp only [Option.bind_some]
  rw [if_pos rfl, k_openNow h (by omega), hon]
  dsimp only [Option.bind_some]
  rw [if_pos (by omega), e1]
  rfl
end
