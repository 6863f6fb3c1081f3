/-! READING: clauses -/
set_option maxRecDepth 100000
/-- a clause: its sort, two numbers -/
abbrev aCl : Type := Int × Int × Int
abbrev aT : Type := List aCl × aC × aSt
section
variable (lx : Int → Int × Int × Int × Int)
def aTwo (hi w lo2 hi2 : Int) (st : aSt) : ((Int × Int) × aSt) ⊕ aF := match aNu lx 0 hi st with
  | .inr f => .inr f
  | .inl (a, s1) => match aWt lx w s1 with
    | .inr f => .inr f
    | .inl s2 => match aNu lx lo2 hi2 s2 with
      | .inr f => .inr f
      | .inl (b, s3) => .inl ((a, b), s3)
def aSin (lo hi : Int) (st : aSt) : ((Int × Int) × aSt) ⊕ aF := match aNu lx lo hi st with
  | .inr f => .inr f
  | .inl (a, s1) => .inl ((a, -1), s1)
def aDo (kd : Int) (st : aSt) : ((Int × Int) × aSt) ⊕ aF := if kd = 202 then aTwo lx 9 208 0 99 st else if kd = 204 then aTwo lx 5 209 1 99 st else if kd = 206 then aTwo lx 5 210 0 5 st else if kd = 207 then aSin lx 1 60 st else aSin lx 0 5 st
def aBody (kd : Int) (C : aC) (st : aSt) : Option (((Int × Int) × aC × aSt) ⊕ aF) :=
  if kd ≤ 201 then ((aTk lx kd 80).2.2.2.2.2.2 st).bind fun r => aB r fun x => some (.inl (((C.length : Int), ((C ++ x.1).length : Int)), C ++ x.1, x.2))
  else aB (aDo lx kd st) fun x => some (.inl (x.1, C, x.2))
def aHas (Cl : List aCl) (w : Int) : Bool := Cl.any fun c => decide (c.1 = w)
def aCla : aT → Option ((aF ⊕ aT) ⊕ aT) := fun z =>
  if z.2.2.s = 301 then some (.inl (.inr z))
  else if z.2.2.s < 200 ∨ 207 < z.2.2.s then some (.inl (.inl (1, z.2.2.p)))
  else if z.2.2.s ≤ 201 ∧ aHas z.1 (z.2.2.s - 200) = true then some (.inl (.inl (4, z.2.2.p)))
  else if (z.1.length : Int) = 24 then some (.inl (.inl (6, z.2.2.p)))
  else (aBody lx z.2.2.s z.2.1 (aNx lx z.2.2)).bind fun r => match r with
    | .inr f => some (.inl (.inl f))
    | .inl x => match aWt lx 59 x.2.2 with
      | .inr f => some (.inl (.inl f))
      | .inl s => some (.inr (z.1 ++ [(z.2.2.s - 200, x.1.1, x.1.2)], x.2.1, s))
def aRd : Option (aF ⊕ aT) := zLoop (aCla lx) zFuel ([], [], aNx lx (0, 0, 0, 0, 0))
end
def aOnce (Cl : List aCl) : Int := (if aHas Cl 0 = true then 1 else 0) + (if aHas Cl 1 = true then 2 else 0)
def qSt (E : zP) (tx : Int) (st : aSt) (Cl : List aCl) (C : aC) (T : zP) : Prop :=
  tR T st ∧ (∀ c, c ≠ 0 → c ≠ 3 → c ≠ 5 → T c = E c) ∧ (∀ i, i < 7 ∨ 19 < i → T 0 i = E 0 i) ∧ T 0 12 = tx ∧ T 0 13 = (C.length : Int) ∧ T 0 19 = aOnce Cl ∧ T 3 tx = (Cl.length : Int) ∧
  (∀ (i : Nat) (c : aCl), Cl[i]? = some c → T 3 (tx + 1 + 3 * (i : Int)) = c.1 ∧ T 3 (tx + 2 + 3 * (i : Int)) = c.2.1 ∧ ((c.1 ≤ 2 ∨ c.1 = 4 ∨ c.1 = 6) → T 3 (tx + 3 + 3 * (i : Int)) = c.2.2)) ∧
  pCd T tx C ∧ (∀ j, j < tx ∨ tx + 681 ≤ j → T 3 j = E 3 j) ∧ (C.length : Int) ≤ st.p
section
variable {E T : zP} {lx : Int → Int × Int × Int × Int} {tx nn : Int} {st : aSt} {Cl : List aCl} {C : aC}
theorem k_next' (hl : aLx lx E nn) (hR : tR T st) (h4 : T 4 = E 4) (h0 : T 0 4 = E 0 4) (hv : aV nn st) : ∃ T', p_X2_nextToken T = some T' ∧ (∀ c, c ≠ 0 → T' c = T c) ∧ (∀ i, i < 7 ∨ 11 < i → T' 0 i = T 0 i) ∧ tR T' (aNx lx st) :=
  hl.2 T st.a st.o h4 h0 hR.1 (by have := hv.1; omega) hv.1.2.2
/-- a number -/
theorem k_figure (hl : aLx lx E nn) (hR : tR T st) (h4 : T 4 = E 4) (h0 : T 0 4 = E 0 4) (hv : aV nn st) {x lo hi : Int} (x0 : 0 ≤ x) (x1 : x < 2724) (l0 : 0 ≤ lo) (h9 : hi ≤ 9999) : (∃ f, aNu lx lo hi st = .inr (f, st.p) ∧ p_X2_figure T x lo hi = some (f, T) ∧ f ≠ 0) ∨ ∃ v T', aNu lx lo hi st = .inl (v, aNx lx st) ∧ st.s = 300 ∧ p_X2_figure T x lo hi = some (0, T') ∧ tR T' (aNx lx st) ∧ (∀ c, c ≠ 0 → c ≠ 3 → T' c = T c) ∧ (∀ i, i < 7 ∨ 11 < i → T' 0 i = T 0 i) ∧ (∀ j, j ≠ x → T' 3 j = T 3 j) ∧ T' 3 x = v ∧ lo ≤ v ∧ v ≤ hi := by
  have r1 := hR.2.2.2.1
  unfold aNu p_X2_figure
  dsimp only [zlt]
  by_cases h : st.s = 300
  · rw [if_pos h, if_pos (r1.mpr h)]
    have hn := hR.2.2.2.2.1 h
    by_cases hb : st.n < lo ∨ hi < st.n
    · refine Or.inl ⟨2, by rw [if_pos hb], ?_, by omega⟩
      rw [k_isIn, if_neg (by omega)]; rfl
    · have e10 : T 0 10 = st.n := by omega
      have hR2 : tR (pup T 3 x st.n) st := tR_c hR (fun i _ => pup_c (by omega)) (pup_r (by omega))
      obtain ⟨T', e, f1, f2, f3⟩ := k_next' hl hR2 (by rw [pup_r (by omega)]; exact h4) (by rw [pup_c (by omega)]; exact h0) hv
      refine Or.inr ⟨st.n, T', by rw [if_neg hb], h, ?_, f3, fun c a b => (f1 c a).trans (pup_r b), fun i hi => (f2 i hi).trans (pup_c (by omega)), fun j hj => by rw [f1 3 (by omega), pup_k hj], by rw [f1 3 (by omega), pup_e rfl], by omega, by omega⟩
      rw [k_isIn, if_pos (by omega), e10]
      have pa : past T 3 2724 x st.n = some (pup T 3 x st.n) := if_pos (by omega)
      dsimp only [Option.bind_some]
      rw [if_neg (by omega), pa]
      dsimp only [Option.bind_some]
      rw [e]; rfl
  · refine Or.inl ⟨1, by rw [if_neg h], ?_, by omega⟩
    rw [if_neg (fun y => h (r1.mp y))]
/-- two numbers with a word between them -/
theorem k_pair (hl : aLx lx E nn) (hR : tR T st) (h4 : T 4 = E 4) (h0 : T 0 4 = E 0 4) (hv : aV nn st) {x w kw hi lo2 hi2 : Int} (hw : (w, kw) ∈ tWs) (x0 : 0 ≤ x) (x1 : x + 2 < 2724) (h9 : hi ≤ 9999) (l2 : 0 ≤ lo2) (h92 : hi2 ≤ 9999) : (∃ f p T', aTwo lx hi w lo2 hi2 st = .inr (f, p) ∧ p_X2_pair T x hi kw lo2 hi2 = some (f, T') ∧ f ≠ 0 ∧ T' 0 8 = p ∧ (∀ c, c ≠ 0 → c ≠ 3 → T' c = T c) ∧ (∀ i, i < 7 ∨ 11 < i → T' 0 i = T 0 i) ∧ (∀ j, j ≠ x + 1 → j ≠ x + 2 → T' 3 j = T 3 j)) ∨ ∃ v u s' T', aTwo lx hi w lo2 hi2 st = .inl ((v, u), s') ∧ p_X2_pair T x hi kw lo2 hi2 = some (0, T') ∧ tR T' s' ∧ aV nn s' ∧ s'.o = st.o ∧ st.p < s'.p ∧ (∀ c, c ≠ 0 → c ≠ 3 → T' c = T c) ∧ (∀ i, i < 7 ∨ 11 < i → T' 0 i = T 0 i) ∧ (∀ j, j ≠ x + 1 → j ≠ x + 2 → T' 3 j = T 3 j) ∧ T' 3 (x + 1) = v ∧ T' 3 (x + 2) = u := by
  unfold aTwo p_X2_pair
  rw [p32_n (by omega) (by omega)]
  rcases k_figure hl hR h4 h0 hv (x := x + 1) (lo := 0) (hi := hi) (by omega) (by omega) (by omega) h9 with ⟨f, a1, a2, a3⟩ | ⟨v, T1, a1, a0, a2, a3, a4, a5, a6, a7, -⟩
  · refine Or.inl ⟨f, st.p, T, by rw [a1], ?_, a3, hR.2.1, fun _ _ _ => rfl, fun _ _ => rfl, fun _ _ _ => rfl⟩
    rw [a2]
    dsimp only [Option.bind_some]
    rw [if_neg a3]
  · rw [a1, a2]
    have hv1 := aV_nx hl hv
    have hp1 := nx_p hl hv
    have hadv := hv.2.1 (by rw [a0]; omega)
    obtain ⟨s1, es1⟩ : ∃ s1, s1 = aNx lx st := ⟨_, rfl⟩
    have o1 : s1.o = st.o := by rw [es1]; rfl
    rw [← es1] at hv1 hp1 a3 ⊢
    dsimp only [Option.bind_some]
    rw [if_pos rfl, k_isWord a3 hw]
    unfold aWt
    by_cases hs : s1.s = w
    · rw [if_pos hs, if_pos hs]
      have hadv1 := hv1.2.1 (by have := tw_3 _ hw; have e : (w, kw).1 = w := rfl; omega)
      obtain ⟨T2, e2, f1, f2, f3⟩ := k_next' hl a3 (by rw [a4 4 (by omega) (by omega)]; exact h4) (by rw [a5 4 (by omega)]; exact h0) hv1
      have hv2 := aV_nx hl hv1
      have hp2 := nx_p hl hv1
      obtain ⟨s2, es2⟩ : ∃ s2, s2 = aNx lx s1 := ⟨_, rfl⟩
      have o2 : s2.o = s1.o := by rw [es2]; rfl
      rw [← es2] at hv2 hp2 f3 ⊢
      dsimp only [Option.bind_some]
      rw [if_neg (by omega), e2]
      dsimp only [Option.bind_some]
      rw [p32_n (by omega) (by omega)]
      rcases k_figure hl f3 (by rw [f1 4 (by omega), a4 4 (by omega) (by omega)]; exact h4) (by rw [f2 4 (by omega), a5 4 (by omega)]; exact h0) hv2 (x := x + 2) (lo := lo2) (hi := hi2) (by omega) (by omega) l2 h92 with ⟨f, b1, b2, b3⟩ | ⟨u, T3, b1, b0, b2, b3, b4, b5, b6, b7, -⟩
      · refine Or.inl ⟨f, s2.p, T2, by rw [b1], by rw [b2]; rfl, b3, f3.2.1, fun c p q => (f1 c p).trans (a4 c p q), fun i hi => (f2 i hi).trans (a5 i hi), fun j p q => by rw [f1 3 (by omega)]; exact a6 j p⟩
      · have hv3 := aV_nx hl hv2
        have hp3 := nx_p hl hv2
        have hadv2 := hv2.2.1 (by rw [b0]; omega)
        refine Or.inr ⟨v, u, aNx lx s2, T3, by rw [b1], by rw [b2]; rfl, b3, hv3, ?_, Int.lt_of_lt_of_le (by omega : st.p < s2.a) hp3, fun c p q => ((b4 c p q).trans (f1 c p)).trans (a4 c p q), fun i hi => ((b5 i hi).trans (f2 i hi)).trans (a5 i hi), fun j p q => by rw [b6 j q, f1 3 (by omega)]; exact a6 j p, by rw [b6 _ (by omega), f1 3 (by omega)]; exact a7, b7⟩
        show s2.o = st.o
        omega
    · rw [if_neg hs, if_neg hs]
      exact Or.inl ⟨1, s1.p, T1, rfl, rfl, by omega, a3.2.1, a4, a5, fun j p q => a6 j p⟩
theorem k_single (hl : aLx lx E nn) (hR : tR T st) (h4 : T 4 = E 4) (h0 : T 0 4 = E 0 4) (hv : aV nn st) {x lo hi : Int} (x0 : 0 ≤ x) (x1 : x + 2 < 2724) (h9 : hi ≤ 9999) (l2 : 0 ≤ lo) : (∃ f p T', aSin lx lo hi st = .inr (f, p) ∧ p_X2_figure T (x + 1) lo hi = some (f, T') ∧ f ≠ 0 ∧ T' 0 8 = p ∧ (∀ c, c ≠ 0 → c ≠ 3 → T' c = T c) ∧ (∀ i, i < 7 ∨ 11 < i → T' 0 i = T 0 i) ∧ (∀ j, j ≠ x + 1 → j ≠ x + 2 → T' 3 j = T 3 j)) ∨ ∃ v s' T', aSin lx lo hi st = .inl ((v, -1), s') ∧ p_X2_figure T (x + 1) lo hi = some (0, T') ∧ tR T' s' ∧ aV nn s' ∧ s'.o = st.o ∧ st.p < s'.p ∧ (∀ c, c ≠ 0 → c ≠ 3 → T' c = T c) ∧ (∀ i, i < 7 ∨ 11 < i → T' 0 i = T 0 i) ∧ (∀ j, j ≠ x + 1 → j ≠ x + 2 → T' 3 j = T 3 j) ∧ T' 3 (x + 1) = v := by
  unfold aSin
  rcases k_figure hl hR h4 h0 hv (x := x + 1) (lo := lo) (hi := hi) (by omega) (by omega) l2 h9 with ⟨f, a1, a2, a3⟩ | ⟨v, T1, a1, a0, a2, a3, a4, a5, a6, a7, -⟩
  · exact Or.inl ⟨f, st.p, T, by rw [a1], a2, a3, hR.2.1, fun _ _ _ => rfl, fun _ _ => rfl, fun _ _ _ => rfl⟩
  · have hv1 := aV_nx hl hv
    have hp1 := nx_p hl hv
    have hadv := hv.2.1 (by rw [a0]; omega)
    exact Or.inr ⟨v, aNx lx st, T1, by rw [a1], a2, a3, hv1, rfl, by omega, a4, a5, fun j p _ => a6 j p, a7⟩
theorem k_sortOf (hR : tR T st) : p_X2_sortOf T = some (if st.s < 200 ∨ 207 < st.s then -1 else st.s - 200) := by
  have w0 := hR.2.2.2.2.2.2.2.2.2
  have w1 := k_isWord hR (a := 201) (b := 422607680115) (by decide)
  have w2 := k_isWord hR (a := 202) (b := 7039342) (by decide)
  have w3 := k_isWord hR (a := 203) (b := 491327153000) (by decide)
  have w4 := k_isWord hR (a := 204) (b := 1685026670) (by decide)
  have w5 := k_isWord hR (a := 205) (b := 495874892144) (by decide)
  have w6 := k_isWord hR (a := 206) (b := 1937203568) (by decide)
  have w7 := k_isWord hR (a := 207) (b := 110403987072370) (by decide)
  unfold p_X2_sortOf
  rw [w0]
  dsimp only [Option.bind_some]
  by_cases h0 : st.s = 200
  · rw [if_pos h0, if_neg (by omega), if_neg (by omega), h0]; rfl
  rw [if_neg h0, if_pos rfl, w_bears]
  dsimp only [Option.bind_some]
  rw [w1]
  dsimp only [Option.bind_some]
  by_cases h1 : st.s = 201
  · rw [if_pos h1, if_neg (by omega), if_neg (by omega), h1]; rfl
  rw [if_neg h1, if_pos rfl, w_kin]
  dsimp only [Option.bind_some]
  rw [w2]
  dsimp only [Option.bind_some]
  by_cases h2 : st.s = 202
  · rw [if_pos h2, if_neg (by omega), if_neg (by omega), h2]; rfl
  rw [if_neg h2, if_pos rfl, w_reach]
  dsimp only [Option.bind_some]
  rw [w3]
  dsimp only [Option.bind_some]
  by_cases h3 : st.s = 203
  · rw [if_pos h3, if_neg (by omega), if_neg (by omega), h3]; rfl
  rw [if_neg h3, if_pos rfl, w_down]
  dsimp only [Option.bind_some]
  rw [w4]
  dsimp only [Option.bind_some]
  by_cases h4 : st.s = 204
  · rw [if_pos h4, if_neg (by omega), if_neg (by omega), h4]; rfl
  rw [if_neg h4, if_pos rfl, w_strap]
  dsimp only [Option.bind_some]
  rw [w5]
  dsimp only [Option.bind_some]
  by_cases h5 : st.s = 205
  · rw [if_pos h5, if_neg (by omega), if_neg (by omega), h5]; rfl
  rw [if_neg h5, if_pos rfl, w_swap]
  dsimp only [Option.bind_some]
  rw [w6]
  dsimp only [Option.bind_some]
  by_cases h6 : st.s = 206
  · rw [if_pos h6, if_neg (by omega), if_neg (by omega), h6]; rfl
  rw [if_neg h6, if_pos rfl, w_dinner]
  dsimp only [Option.bind_some]
  rw [w7]
  dsimp only [Option.bind_some]
  by_cases h7 : st.s = 207
  · rw [if_pos h7, if_neg (by omega), if_neg (by omega), h7]; rfl
  rw [if_neg h7, if_pos rfl, if_pos (by omega)]
end
