/-! READING: what a text is, by descent, its laws as steps -/
set_option maxRecDepth 100000
abbrev aC : Type := List (Int × Int)
/-- sort, number, place, what is next, how many signs wait -/
abbrev aSt : Type := Int × Int × Int × Int × Int
abbrev aSt.s (x : aSt) : Int := x.1
abbrev aSt.n (x : aSt) : Int := x.2.1
abbrev aSt.p (x : aSt) : Int := x.2.2.1
abbrev aSt.a (x : aSt) : Int := x.2.2.2.1
abbrev aSt.o (x : aSt) : Int := x.2.2.2.2
abbrev aF : Type := Int × Int
abbrev aX : Type := (aC × aSt) ⊕ aF
abbrev aFn : Type := aSt → Option aX
/-- ask, both, either, choice, one, product, sum -/
abbrev aTb : Type := aFn × aFn × aFn × aFn × aFn × aFn × aFn
def aB {α β : Type} (x : α ⊕ aF) (k : α → Option (β ⊕ aF)) : Option (β ⊕ aF) := match x with
  | .inl a => k a
  | .inr f => some (.inr f)
def aNm (s : Int) : Int := if s = 207 then 0 else if s = 220 then 1 else if s = 221 then 2 else if s = 208 then 3 else if s = 222 then 4 else if s = 223 then 5 else if s = 224 then 6 else -1
def aMy (kd k : Int) : Bool := decide (k < 5 ∨ (k = 5 ∧ kd = 200) ∨ (k ≠ 5 ∧ kd ≠ 200))
def aUn (s : Int) : Int := if s = 211 then 2 else if s = 212 then 4 else 5
def aCm (s : Int) : Int := if s = 60 then 10 else if s = 303 then 11 else if s = 62 then 12 else if s = 304 then 13 else if s = 61 then 14 else if s = 35 then 15 else -1
def aLp (y : aF ⊕ (aC × aSt)) : aX := match y with
  | .inl f => .inr f
  | .inr x => .inl x
section
variable (lx : Int → Int × Int × Int × Int) (kd : Int)
def aNx (st : aSt) : aSt := ⟨(lx st.a).1, (lx st.a).2.1, (lx st.a).2.2.1, (lx st.a).2.2.2, st.o⟩
def aOp (st : aSt) : aSt ⊕ aF := if st.o = 8 then .inr (3, st.p) else .inl (aNx lx ⟨st.s, st.n, st.p, st.a, st.o + 1⟩)
def aSh (st : aSt) : aSt := ⟨st.s, st.n, st.p, st.a, st.o - 1⟩
def aWt (c : Int) (st : aSt) : aSt ⊕ aF := if st.s = c then .inl (aNx lx st) else .inr (1, st.p)
def aNu (lo hi : Int) (st : aSt) : (Int × aSt) ⊕ aF := if st.s = 300 then (if st.n < lo ∨ hi < st.n then .inr (2, st.p) else .inl (st.n, aNx lx st)) else .inr (1, st.p)
def aOne (rec : aTb) : aFn := fun st =>
  if st.s = 300 then aB (aNu lx 0 9999 st) fun x => some (.inl ([(0, x.1)], x.2))
  else if st.s = 213 then rec.2.2.2.1 st
  else if aNm st.s = -1 then
    (if st.s = 40 then aB (aOp lx st) fun s1 => (rec.2.2.2.2.2.2 s1).bind fun r => aB r fun x => aB (aWt lx 41 x.2) fun s3 => some (.inl (x.1, aSh s3))
     else if st.s = 45 ∨ st.s = 211 ∨ st.s = 212 then aB (aOp lx st) fun s1 => (rec.2.2.2.2.1 s1).bind fun r => aB r fun x => some (.inl (x.1 ++ [(aUn st.s, 0)], aSh x.2))
     else some (.inr (1, st.p)))
  else if aMy kd (aNm st.s) = true then some (.inl ([(1, aNm st.s)], aNx lx st)) else some (.inr (5, st.p))
/-- more of one rank, from the left -/
def aMo (c1 c2 o1 o2 : Int) (f : aFn) : aC × aSt → Option ((aF ⊕ (aC × aSt)) ⊕ (aC × aSt)) := fun z =>
  if z.2.s = c1 ∨ z.2.s = c2 then (f (aNx lx z.2)).bind fun r => match r with
    | .inl x => some (.inr (z.1 ++ x.1 ++ [(if z.2.s = c1 then o1 else o2, 0)], x.2))
    | .inr q => some (.inl (.inl q))
  else some (.inl (.inr z))
def aCh (c1 c2 o1 o2 : Int) (f : aFn) : aFn := fun st => (f st).bind fun r => aB r fun x => (zLoop (aMo lx c1 c2 o1 o2 f) zFuel x).bind fun y => some (aLp y)
def aAsk (rec : aTb) : aFn := fun st =>
  if st.s = 219 then aB (aOp lx st) fun s1 => (rec.1 s1).bind fun r => aB r fun x => some (.inl (x.1 ++ [(20, 0)], aSh x.2))
  else (rec.2.2.2.2.2.2 st).bind fun r => aB r fun x => if aCm x.2.s = -1 then some (.inr (1, x.2.p)) else (rec.2.2.2.2.2.2 (aNx lx x.2)).bind fun r2 => aB r2 fun y => some (.inl (x.1 ++ y.1 ++ [(aCm x.2.s, 0)], y.2))
def aChoice (rec : aTb) : aFn := fun st =>
  aB (aOp lx st) fun s1 => (rec.2.2.1 s1).bind fun r => aB r fun x => aB (aWt lx 214 x.2) fun s2 => (rec.2.2.2.2.2.2 s2).bind fun r => aB r fun y => aB (aWt lx 215 y.2) fun s3 => (rec.2.2.2.2.2.2 s3).bind fun r => aB r fun z => aB (aWt lx 216 z.2) fun s4 => some (.inl (x.1 ++ y.1 ++ z.1 ++ [(3, 0)], aSh s4))
def aTk : Nat → aTb
  | 0 => (fun _ => none, fun _ => none, fun _ => none, fun _ => none, fun _ => none, fun _ => none, fun _ => none)
  | d + 1 => (aAsk lx (aTk d), aCh lx 218 218 21 21 (aTk d).1, aCh lx 217 217 22 22 (aTk d).2.1, aChoice lx (aTk d), aOne lx kd (aTk d), aCh lx 42 47 8 9 (aTk d).2.2.2.2.1, aCh lx 43 45 6 7 (aTk d).2.2.2.2.2.1)
end
/-! the model's side: what its state holds -/
def rk (x : Int) : Int := if 40 ≤ x then 0 else if x = 22 then 1 else if x = 21 then 2 else if x = 20 then 3 else if 10 ≤ x then 4 else if 8 ≤ x then 6 else if 6 ≤ x then 5 else 7
theorem k_rank (x : Int) : p_X2_rank x = some (rk x) := by
  unfold p_X2_rank rk
  repeat' split
  all_goals first | rfl | (exfalso; omega)
/-- words: their sorts, their letters packed -/
def tWs : List (Int × Int) := [(201, 422607680115), (202, 7039342), (203, 491327153000), (204, 1685026670), (205, 495874892144), (206, 1937203568), (207, 110403987072370), (208, 1801810036), (209, 25209), (210, 2003399784), (211, 107079749563251), (212, 124749094479218), (213, 26982), (214, 1952998766), (215, 1701606245), (216, 6647396), (217, 28530), (218, 6385252), (219, 7237492), (220, 7825519), (221, 127978976601458), (222, 1936023924), (223, 108187867505765), (224, 465726042981)]
def tR (T : zP) (st : aSt) : Prop :=
  T 0 7 = st.a ∧ T 0 8 = st.p ∧ (T 0 9 = 0 ↔ st.s = 301) ∧ (T 0 9 = 1 ↔ st.s = 300) ∧ (st.s = 300 → (T 0 10 = st.n ∧ 0 ≤ st.n ∧ st.n ≤ 99999) ∨ (99999 < T 0 10 ∧ st.n = 99999)) ∧
  (∀ c, c ∈ ([40, 41, 42, 43, 45, 47, 59, 60, 61, 62, 35] : List Int) → (T 0 9 = c ↔ st.s = c)) ∧ (T 0 9 = 4 ↔ st.s = 303) ∧ (T 0 9 = 5 ↔ st.s = 304) ∧
  (∀ q, q ∈ tWs → ((T 0 9 = 2 ∧ T 0 11 = q.2) ↔ st.s = q.1)) ∧ p_X2_isReaches T = some (if st.s = 200 then 1 else 0)
section
variable {T T' : zP} {st : aSt}
theorem k_isReaches_c (h0 : ∀ i, (i = 4 ∨ (7 ≤ i ∧ i ≤ 11)) → T' 0 i = T 0 i) (h4 : T' 4 = T 4) : p_X2_isReaches T' = p_X2_isReaches T := by
  have hb : ∀ k, p_X2_byteAt T' k = p_X2_byteAt T k := fun k => by
    unfold p_X2_byteAt pald
    rw [h0 4 (by omega), h4]
  unfold p_X2_isReaches
  rw [h0 9 (by omega), h0 7 (by omega), h0 8 (by omega)]
  simp only [hb]
theorem tR_c (h : tR T st) (h0 : ∀ i, (i = 4 ∨ (7 ≤ i ∧ i ≤ 11)) → T' 0 i = T 0 i) (h4 : T' 4 = T 4) : tR T' st := by
  unfold tR
  rw [k_isReaches_c h0 h4, h0 7 (by omega), h0 8 (by omega), h0 9 (by omega), h0 10 (by omega), h0 11 (by omega)]
  exact h
theorem tR_o (h : tR T st) (o : Int) : tR T ⟨st.s, st.n, st.p, st.a, o⟩ := h
theorem k_isWord (h : tR T st) {a b : Int} (hq : (a, b) ∈ tWs) : p_X2_isWord T b = some (if st.s = a then 1 else 0) := by
  have hw := h.2.2.2.2.2.2.2.2.1 (a, b) hq
  dsimp only at hw
  unfold p_X2_isWord
  dsimp only [zlt]
  by_cases h9 : T 0 9 = 2
  · rw [if_pos h9]
    by_cases h11 : T 0 11 = b
    · rw [if_pos h11, if_pos (hw.mp ⟨h9, h11⟩)]
    · rw [if_neg h11, if_neg (fun x => h11 (hw.mpr x).2)]
  · rw [if_neg h9, if_neg (fun x => h9 (hw.mpr x).1)]
theorem w_dinner : p_X2_w6 100 105 110 110 101 114 = some 110403987072370 := by decide
theorem w_who : p_X2_w3 119 104 111 = some 7825519 := by decide
theorem w_temper : p_X2_w6 116 101 109 112 101 114 = some 127978976601458 := by decide
theorem w_kept : p_X2_w4 107 101 112 116 = some 1801810036 := by decide
theorem w_seat : p_X2_w4 115 101 97 116 = some 1936023924 := by decide
theorem w_beside : p_X2_w6 98 101 115 105 100 101 = some 108187867505765 := by decide
theorem w_loose : p_X2_w5 108 111 111 115 101 = some 465726042981 := by decide
theorem w_across : p_X2_w6 97 99 114 111 115 115 = some 107079749563251 := by decide
theorem w_quiver : p_X2_w6 113 117 105 118 101 114 = some 124749094479218 := by decide
theorem w_if : p_X2_w2 105 102 = some 26982 := by decide
theorem w_not : p_X2_w3 110 111 116 = some 7237492 := by decide
theorem w_and : p_X2_w3 97 110 100 = some 6385252 := by decide
theorem w_or : p_X2_w2 111 114 = some 28530 := by decide
theorem w_then : p_X2_w4 116 104 101 110 = some 1952998766 := by decide
theorem w_else : p_X2_w4 101 108 115 101 = some 1701606245 := by decide
theorem w_end : p_X2_w3 101 110 100 = some 6647396 := by decide
theorem w_bears : p_X2_w5 98 101 97 114 115 = some 422607680115 := by decide
theorem w_kin : p_X2_w3 107 105 110 = some 7039342 := by decide
theorem w_reach : p_X2_w5 114 101 97 99 104 = some 491327153000 := by decide
theorem w_down : p_X2_w4 100 111 119 110 = some 1685026670 := by decide
theorem w_strap : p_X2_w5 115 116 114 97 112 = some 495874892144 := by decide
theorem w_swap : p_X2_w4 115 119 97 112 = some 1937203568 := by decide
theorem w_by : p_X2_w2 98 121 = some 25209 := by decide
theorem w_with : p_X2_w4 119 105 116 104 = some 2003399784 := by decide
theorem k_nameOf (h : tR T st) : p_X2_nameOf T = some (aNm st.s) := by
  have hw := h.2.2.2.2.2.2.2.2.1
  have e0 := hw (207, 110403987072370) (by decide)
  have e1 := hw (220, 7825519) (by decide)
  have e2 := hw (221, 127978976601458) (by decide)
  have e3 := hw (208, 1801810036) (by decide)
  have e4 := hw (222, 1936023924) (by decide)
  have e5 := hw (223, 108187867505765) (by decide)
  have e6 := hw (224, 465726042981) (by decide)
  dsimp only at e0 e1 e2 e3 e4 e5 e6
  unfold p_X2_nameOf aNm
  rw [w_dinner, w_who, w_temper, w_kept, w_seat, w_beside, w_loose]
  dsimp only [zlt, Option.bind_some]
  by_cases h9 : T 0 9 = 2
  · rw [if_pos h9]
    simp only [h9, true_and] at e0 e1 e2 e3 e4 e5 e6
    simp only [e0, e1, e2, e3, e4, e5, e6]
    split
    · rfl
    split
    · rfl
    split
    · rfl
    split
    · rfl
    split
    · rfl
    split
    · rfl
    split <;> rfl
  · rw [if_neg h9]
    simp only [h9, false_and, false_iff] at e0 e1 e2 e3 e4 e5 e6
    rw [if_neg e0, if_neg e1, if_neg e2, if_neg e3, if_neg e4, if_neg e5, if_neg e6]
end
