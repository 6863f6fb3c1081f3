/-! READING: the model's clauses -/
set_option maxRecDepth 100000
section
variable {E T : zP} {lx : Int → Int × Int × Int × Int} {tx nn : Int} {st : aSt} {Cl : List aCl} {C : aC}
theorem aLx_c {E' : zP} (hl : aLx lx E nn) (h4 : E' 4 = E 4) (h0 : E' 0 4 = E 0 4) : aLx lx E' nn :=
  ⟨hl.1, fun T a o a4 a0 => hl.2 T a o (a4.trans h4) (a0.trans h0)⟩
theorem aHas_a (Cl : List aCl) (c : aCl) (w : Int) : aHas (Cl ++ [c]) w = (aHas Cl w || decide (c.1 = w)) := by
  unfold aHas
  rw [List.any_append]
  simp
theorem aOnce_h (Cl : List aCl) {w : Int} (hw : w = 0 ∨ w = 1) : pHas (aOnce Cl) w = if aHas Cl w = true then 1 else 0 := by
  unfold aOnce
  rcases hw with rfl | rfl <;> cases aHas Cl 0 <;> cases aHas Cl 1 <;> decide
theorem aOnce_p (Cl : List aCl) {w : Int} (hw : w = 0 ∨ w = 1) (v u : Int) (hn : ¬ aHas Cl w = true) : por (aOnce Cl) (pshl 1 w) = aOnce (Cl ++ [(w, v, u)]) := by
  unfold aOnce
  rw [aHas_a, aHas_a]
  have a0 : ∀ b : Bool, por ((if false = true then 1 else 0) + if b = true then 2 else 0) (pshl 1 0) = (if (false || decide ((0 : Int) = 0)) = true then 1 else 0) + if (b || decide ((0 : Int) = 1)) = true then 2 else 0 := by decide
  have a1 : ∀ b : Bool, por ((if b = true then 1 else 0) + if false = true then 2 else 0) (pshl 1 1) = (if (b || decide ((1 : Int) = 0)) = true then 1 else 0) + if (false || decide ((1 : Int) = 1)) = true then 2 else 0 := by decide
  rcases hw with rfl | rfl
  · have : aHas Cl 0 = false := by
      cases h : aHas Cl 0 with
      | false => rfl
      | true => exact absurd h hn
    rw [this]
    exact a0 _
  · have : aHas Cl 1 = false := by
      cases h : aHas Cl 1 with
      | false => rfl
      | true => exact absurd h hn
    rw [this]
    exact a1 _
theorem aOnce_o (Cl : List aCl) {w : Int} (hw : 2 ≤ w) (v u : Int) : aOnce (Cl ++ [(w, v, u)]) = aOnce Cl := by
  unfold aOnce
  rw [aHas_a, aHas_a]
  have e0 : decide ((w, v, u).1 = 0) = false := decide_eq_false (by show ¬ w = 0; omega)
  have e1 : decide ((w, v, u).1 = 1) = false := decide_eq_false (by show ¬ w = 1; omega)
  rw [e0, e1, Bool.or_false, Bool.or_false]
/-- what a failed reading leaves -/
def wF (E : zP) (tx : Int) (T : zP) : Prop := (∀ c, c ≠ 0 → c ≠ 3 → c ≠ 5 → T c = E c) ∧ (∀ i, i < 7 ∨ 19 < i → T 0 i = E 0 i) ∧ ∀ j, j < tx ∨ tx + 681 ≤ j → T 3 j = E 3 j
/-- a clause's body is read -/
def qB (E : zP) (tx : Int) (st : aSt) (Cl : List aCl) (C : aC) (w v u : Int) (T : zP) : Prop :=
  tR T st ∧ wF E tx T ∧ T 0 12 = tx ∧ T 0 13 = (C.length : Int) ∧ T 0 19 = aOnce (Cl ++ [(w, v, u)]) ∧ T 3 tx = (Cl.length : Int) ∧
  (∀ (i : Nat) (c : aCl), Cl[i]? = some c → T 3 (tx + 1 + 3 * (i : Int)) = c.1 ∧ T 3 (tx + 2 + 3 * (i : Int)) = c.2.1 ∧ ((c.1 ≤ 2 ∨ c.1 = 4 ∨ c.1 = 6) → T 3 (tx + 3 + 3 * (i : Int)) = c.2.2)) ∧
  (T 3 (tx + 1 + 3 * (Cl.length : Int)) = w ∧ T 3 (tx + 2 + 3 * (Cl.length : Int)) = v ∧ ((w ≤ 2 ∨ w = 4 ∨ w = 6) → T 3 (tx + 3 + 3 * (Cl.length : Int)) = u)) ∧
  pCd T tx C ∧ (C.length : Int) ≤ st.p
theorem qB_end (hl : aLx lx E nn) (t0 : 0 ≤ tx) (t1 : tx ≤ 2043) (hcl : Cl.length < 24) {w v u : Int} (h : qB E tx st Cl C w v u T) (hv : aV nn st) : ∃ T1, T1 = pup T 3 tx ((Cl.length : Int) + 1) ∧ pald T 3 2724 tx = some (Cl.length : Int) ∧ past T 3 2724 tx ((Cl.length : Int) + 1) = some T1 ∧ (T1 0 9 = 59 ↔ st.s = 59) ∧ T1 0 8 = st.p ∧ wF E tx T1 ∧ (st.s = 59 → ∃ T2, p_X2_nextToken T1 = some T2 ∧ qSt E tx (aNx lx st) (Cl ++ [(w, v, u)]) C T2) := by
  obtain ⟨h1, h2, h3, h4, h5, h6, h7, h8, h9, h10⟩ := h
  have hR : tR (pup T 3 tx ((Cl.length : Int) + 1)) st := tR_c h1 (fun i _ => pup_c (by omega)) (pup_r (by omega))
  have hF : wF E tx (pup T 3 tx ((Cl.length : Int) + 1)) := ⟨fun c a b d => (pup_r b).trans (h2.1 c a b d), fun i hi => (pup_c (by omega)).trans (h2.2.1 i hi), fun j hj => (pup_k (by omega)).trans (h2.2.2 j hj)⟩
  refine ⟨_, rfl, by rw [← h6]; exact if_pos (by omega), if_pos (by omega), hR.2.2.2.2.2.1 59 (by decide), hR.2.1, hF, fun hs => ?_⟩
  obtain ⟨T2, e, f1, f2, f3⟩ := k_next' hl hR (by rw [pup_r (by omega)]; exact h2.1 4 (by omega) (by omega) (by omega)) (by rw [pup_c (by omega)]; exact h2.2.1 4 (by omega)) hv
  have hp := nx_p hl hv
  have hpp := hv.1
  have e3 : ∀ j, j ≠ tx → T2 3 j = T 3 j := fun j hj => by rw [f1 3 (by omega), pup_k hj]
  refine ⟨T2, e, f3, fun c a b d => (f1 c a).trans ((pup_r b).trans (h2.1 c a b d)), fun i hi => (f2 i (by omega)).trans ((pup_c (by omega)).trans (h2.2.1 i hi)), (f2 12 (by omega)).trans ((pup_c (by omega)).trans h3), (f2 13 (by omega)).trans ((pup_c (by omega)).trans h4), (f2 19 (by omega)).trans ((pup_c (by omega)).trans h5), ?_, fun i c hi => ?_, fun i x hi => ?_, fun j hj => (e3 j (by omega)).trans (h2.2.2 j hj), by omega⟩
  · rw [f1 3 (by omega), pup_e rfl, List.length_append, List.length_singleton]; omega
  · by_cases hl2 : i < Cl.length
    · rw [List.getElem?_append_left hl2] at hi
      rw [e3 _ (by omega), e3 _ (by omega), e3 _ (by omega)]
      exact h7 i c hi
    · have hl3 : i = Cl.length := by
        rcases Nat.lt_or_ge i (Cl ++ [(w, v, u)]).length with y | y
        · rw [List.length_append, List.length_singleton] at y; omega
        · rw [List.getElem?_eq_none y] at hi; cases hi
      subst hl3
      rw [List.getElem?_append_right (Nat.le_refl _), Nat.sub_self] at hi
      cases hi
      rw [e3 _ (by omega), e3 _ (by omega), e3 _ (by omega)]
      exact h8
  · rw [e3 _ (by omega), e3 _ (by omega)]
    exact h9 i x hi
/-- the sum of a law -/
theorem k_summed (hl : aLx lx E nn) (n300 : nn ≤ 300) (t0 : 0 ≤ tx) (t1 : tx ≤ 2043) {kd : Int} (hk : kd = 200 ∨ kd = 201) (hR : tR T st) (hv : aV nn st) (ho : st.o = 0) (h4 : T 4 = E 4) (h0 : T 0 4 = E 0 4) (h12 : T 0 12 = tx) (h13 : T 0 13 = (C.length : Int)) (h14 : T 0 14 = kd - 200) (hC : pCd T tx C) (hCp : (C.length : Int) ≤ st.p) {r : aX} (hr : (aTk lx kd 80).2.2.2.2.2.2 st = some r) :
    (∃ f p T', r = .inr (f, p) ∧ (st.p ≤ p ∧ p ≤ nn) ∧ p_X2_summed T = some (f, T') ∧ T' 0 8 = p ∧ (∀ c, c ≠ 0 → c ≠ 3 → c ≠ 5 → T' c = T c) ∧ (∀ i, i < 7 ∨ i = 12 ∨ i = 14 ∨ 18 < i → T' 0 i = T 0 i) ∧ ∀ j, j < tx + 73 ∨ tx + 681 ≤ j → T' 3 j = T 3 j) ∨
    ∃ L s' T', r = .inl (L, s') ∧ p_X2_summed T = some (0, T') ∧ tR T' s' ∧ aV nn s' ∧ s'.o = 0 ∧ st.p < s'.p ∧ (∀ c, c ≠ 0 → c ≠ 3 → c ≠ 5 → T' c = T c) ∧ (∀ i, i < 7 ∨ i = 12 ∨ i = 14 ∨ 18 < i → T' 0 i = T 0 i) ∧ (∀ j, j < tx + 73 ∨ tx + 681 ≤ j → T' 3 j = T 3 j) ∧ T' 0 13 = ((C ++ L).length : Int) ∧ pCd T' tx (C ++ L) ∧ ((C ++ L).length : Int) ≤ s'.p := by
  obtain ⟨S, eS⟩ : ∃ S, S = pup (pup (pup T 0 16 0) 0 17 0) 0 18 0 := ⟨_, rfl⟩
  have Sc : ∀ c, c ≠ 0 → S c = T c := fun c hc => by rw [eS, pup_r hc, pup_r hc, pup_r hc]
  have Si : ∀ i, i ≠ 16 → i ≠ 17 → i ≠ 18 → S 0 i = T 0 i := fun i a b c => by rw [eS, pup_k c, pup_k b, pup_k a]
  have S16 : S 0 16 = 0 := by rw [eS, pup_k (by omega), pup_k (by omega), pup_e rfl]
  have S17 : S 0 17 = 0 := by rw [eS, pup_k (by omega), pup_e rfl]
  have S18 : S 0 18 = 0 := by rw [eS, pup_e rfl]
  have hlS : aLx lx S nn := aLx_c hl ((Sc 4 (by omega)).trans h4) ((Si 4 (by omega) (by omega) (by omega)).trans h0)
  have hm : mS S tx st [] st.o 0 C S := ⟨tR_c hR (fun i _ => Si i (by omega) (by omega) (by omega)) (Sc 4 (by omega)), ⟨fun _ _ _ _ => rfl, fun _ _ => rfl, fun _ _ => rfl⟩, (Si 13 (by omega) (by omega) (by omega)).trans h13, S16, S17.trans ho.symm, S18, trivial, fun i x hi => by rw [Sc 3 (by omega)]; exact hC i x hi⟩
  have hS12 : S 0 12 = tx := (Si 12 (by omega) (by omega) (by omega)).trans h12
  have sim := (sim_all (lx := lx) (kd := kd) hlS n300 hS12 t0 t1 ((Si 14 (by omega) (by omega) (by omega)).trans h14) hk 80).2.2.2.2.2.2
  have post := sim st [] C S r hr hm hv trivial (fun x => by cases x) (by rw [List.length_nil]; omega) (by rw [List.length_nil]; omega) (fun _ _ => rfl)
  have un : p_X2_summed T = zLoop pb_X2_summed_15 zFuel S := by rw [eS]; rfl
  have hpS : pFr S tx S := ⟨fun _ _ _ _ => rfl, fun _ _ => rfl, fun _ _ => rfl⟩
  have frs : ∀ T', pFr S tx T' → (∀ c, c ≠ 0 → c ≠ 3 → c ≠ 5 → T' c = T c) ∧ (∀ i, i < 7 ∨ i = 12 ∨ i = 14 ∨ 18 < i → T' 0 i = T 0 i) ∧ ∀ j, j < tx + 73 ∨ tx + 681 ≤ j → T' 3 j = T 3 j := fun T' h => ⟨fun c a b d => (h.1 c a b d).trans (Sc c a), fun i hi => (h.2.1 i hi).trans (Si i (by omega) (by omega) (by omega)), fun j hj => (h.2.2 j hj).trans (by rw [Sc 3 (by omega)])⟩
  cases r with
  | inr q =>
    obtain ⟨f, p⟩ := q
    obtain ⟨pq, j, T', j1, j2, j3, j4⟩ := post
    refine Or.inl ⟨f, p, T', rfl, pq, ?_, j3, frs T' j4⟩
    have := hv.1
    have e := j2 (zFuel - (j + 1))
    have hz : zFuel - (j + 1) + j + 1 = zFuel := by
      have : j + 1 ≤ zFuel := by unfold zFuel; omega
      omega
    rw [hz] at e
    rw [un]; exact e
  | inl x =>
    obtain ⟨L, s'⟩ := x
    obtain ⟨R, C', T1, ⟨j, j1, j2⟩, m1, k3, k4, k5, k6, k7, k8, k9, k10, -⟩ := post
    have iR : ∀ z ∈ R, 1 ≤ rk z := fun z hz => by have := k4 z hz; omega
    have hon : oN (R ++ []) = -1 := by rw [oN_a _ _ iR]; rfl
    have c0 := cnt_0 R
    have hv5 := k5.1
    have hln : ([] : List Int).length = 0 := rfl
    have e0 : st.o - cntU [] + cntU R = cntU R := by show st.o - 0 + _ = _; omega
    rw [e0] at m1
    obtain ⟨T2, e2, m2⟩ := s_end hS12 t0 t1 R m1 iR (by rw [List.length_append]; omega) (bt_n k10 (fun x => absurd x (by rw [hon]; omega))) hon (by omega) (by omega) (Int.le_refl _)
    have code : C' ++ emz R = C ++ L := by rw [k3, show emz [] = [] from rfl, List.append_nil]
    rw [code] at m2
    refine Or.inr ⟨L, s', T2, rfl, ?_, m2.1, k5, k6.trans ho, k7, (frs T2 m2.2.1).1, (frs T2 m2.2.1).2.1, (frs T2 m2.2.1).2.2, m2.2.2.1, m2.2.2.2.2.2.2.2, ?_⟩
    · have hv1 := hv.1
      have hz : zFuel = (zFuel - (j + 1)) + 1 + j := by
        have : j + 1 ≤ zFuel := by unfold zFuel; omega
        omega
      rw [un, hz, j2, zLoop_l e2]
    · rw [← code, List.length_append]
      unfold emz
      rw [List.length_map]
      rw [hln] at k8
      omega
end
