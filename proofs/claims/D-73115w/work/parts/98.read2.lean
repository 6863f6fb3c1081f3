/-! READING: steps of the model's -/
set_option maxRecDepth 100000
def pPl (T : zP) : List Int → Prop
  | [] => True
  | x :: r => T 5 (r.length : Int) = x ∧ pPl T r
def pCd (T : zP) (tx : Int) (C : aC) : Prop := ∀ (i : Nat) (x : Int × Int), C[i]? = some x → T 3 (tx + 73 + 2 * (i : Int)) = x.1 ∧ T 3 (tx + 74 + 2 * (i : Int)) = x.2
def pFr (E0 : zP) (tx : Int) (T : zP) : Prop := (∀ c, c ≠ 0 → c ≠ 3 → c ≠ 5 → T c = E0 c) ∧ (∀ i, i < 7 ∨ i = 12 ∨ i = 14 ∨ 18 < i → T 0 i = E0 0 i) ∧ ∀ j, j < tx + 73 ∨ tx + 681 ≤ j → T 3 j = E0 3 j
def mS (E0 : zP) (tx : Int) (st : aSt) (P : List Int) (o w : Int) (C : aC) (T : zP) : Prop := tR T st ∧ pFr E0 tx T ∧ T 0 13 = (C.length : Int) ∧ T 0 16 = (P.length : Int) ∧ T 0 17 = o ∧ T 0 18 = w ∧ pPl T P ∧ pCd T tx C
def aV (nn : Int) (st : aSt) : Prop := (0 ≤ st.p ∧ st.p ≤ st.a ∧ st.a ≤ nn) ∧ (st.s ≠ 301 → st.p < st.a) ∧ 0 ≤ st.o ∧ st.o ≤ 8
/-- what tokens come -/
def aLx (lx : Int → Int × Int × Int × Int) (E0 : zP) (nn : Int) : Prop :=
  (∀ a, 0 ≤ a → a ≤ nn → a ≤ (lx a).2.2.1 ∧ (lx a).2.2.1 ≤ (lx a).2.2.2 ∧ (lx a).2.2.2 ≤ nn ∧ ((lx a).1 ≠ 301 → (lx a).2.2.1 < (lx a).2.2.2)) ∧
  ∀ (T : zP) (a o : Int), T 4 = E0 4 → T 0 4 = E0 0 4 → T 0 7 = a → 0 ≤ a → a ≤ nn → ∃ T', p_X2_nextToken T = some T' ∧ (∀ c, c ≠ 0 → T' c = T c) ∧ (∀ i, i < 7 ∨ 11 < i → T' 0 i = T 0 i) ∧ tR T' ⟨(lx a).1, (lx a).2.1, (lx a).2.2.1, (lx a).2.2.2, o⟩
def cntU : List Int → Int
  | [] => 0
  | x :: r => (if rk x = 7 ∨ x = 20 then 1 else 0) + cntU r
def emz (R : List Int) : aC := R.map fun x => (x, 0)
def lowP (q : Int) : List Int → Prop
  | [] => True
  | x :: _ => rk x < q
def oN : List Int → Int
  | [] => -1
  | x :: r => if 40 ≤ x then x else oN r
def oA : List Int → Int
  | [] => -1
  | x :: r => if 40 ≤ x then (r.length : Int) else oA r
def cP : List Int → Int
  | [] => 0
  | x :: r => if rk x ≤ 4 then (if rk x = 4 then 1 else 0) else cP r
section
variable {E0 T : zP} {lx : Int → Int × Int × Int × Int} {tx nn kd : Int} {st : aSt} {P : List Int} {o w : Int} {C : aC}
theorem pPl_c {T' : zP} : ∀ (P : List Int), pPl T P → (∀ i, i < (P.length : Int) → T' 5 i = T 5 i) → pPl T' P
  | [], _, _ => trivial
  | x :: r, h, e => ⟨(e _ (by rw [List.length_cons]; omega)).trans h.1, pPl_c r h.2 (fun i hi => e i (by rw [List.length_cons]; omega))⟩
theorem aV_nx (hl : aLx lx E0 nn) (h : aV nn st) : aV nn (aNx lx st) := by
  obtain ⟨⟨h1, h2, h3⟩, h4, h5⟩ := h
  have := hl.1 st.a (by omega) h3
  refine ⟨⟨?_, ?_, ?_⟩, this.2.2.2, h5⟩
  · show 0 ≤ (lx st.a).2.2.1; omega
  · exact this.2.1
  · exact this.2.2.1
theorem nx_p (hl : aLx lx E0 nn) (h : aV nn st) : st.a ≤ (aNx lx st).p := (hl.1 st.a (by have := h.1; omega) h.1.2.2).1
theorem k_nx (hl : aLx lx E0 nn) (h : mS E0 tx st P o w C T) (hv : aV nn st) : ∃ T', p_X2_nextToken T = some T' ∧ mS E0 tx (aNx lx st) P o w C T' := by
  obtain ⟨h1, h2, h3, h4, h5, h6, h7, h8⟩ := h
  obtain ⟨T', e, f1, f2, f3⟩ := hl.2 T st.a st.o (h2.1 4 (by omega) (by omega) (by omega)) (h2.2.1 4 (by omega)) h1.1 (by have := hv.1; omega) hv.1.2.2
  refine ⟨T', e, f3, ⟨fun c a b d => (f1 c a).trans (h2.1 c a b d), fun i hi => (f2 i (by omega)).trans (h2.2.1 i hi), fun j hj => ?_⟩, ?_, ?_, ?_, ?_, pPl_c P h7 (fun i _ => by rw [f1 5 (by omega)]), fun i x hi => ?_⟩
  · rw [f1 3 (by omega)]; exact h2.2.2 j hj
  · rw [f2 13 (by omega)]; exact h3
  · rw [f2 16 (by omega)]; exact h4
  · rw [f2 17 (by omega)]; exact h5
  · rw [f2 18 (by omega)]; exact h6
  · rw [f1 3 (by omega)]; exact h8 i x hi
theorem mS_w (h : mS E0 tx st P o w C T) (w' : Int) : mS E0 tx st P o w' C (pup T 0 18 w') := by
  obtain ⟨h1, h2, h3, h4, h5, h6, h7, h8⟩ := h
  refine ⟨tR_c h1 (fun i hi => pup_k (by omega)) (pup_r (by omega)), ⟨fun c a b d => (pup_r a).trans (h2.1 c a b d), fun i hi => (pup_k (by omega)).trans (h2.2.1 i hi), fun j hj => (pup_c (by omega)).trans (h2.2.2 j hj)⟩, (pup_k (by omega)).trans h3, (pup_k (by omega)).trans h4, (pup_k (by omega)).trans h5, pup_e rfl, pPl_c P h7 (fun i _ => pup_c (by omega)), fun i x hi => ?_⟩
  rw [pup_c (by omega), pup_c (by omega)]; exact h8 i x hi
theorem mS_o (h : mS E0 tx st P o w C T) (o' : Int) : mS E0 tx st P o' w C (pup T 0 17 o') := by
  obtain ⟨h1, h2, h3, h4, h5, h6, h7, h8⟩ := h
  refine ⟨tR_c h1 (fun i hi => pup_k (by omega)) (pup_r (by omega)), ⟨fun c a b d => (pup_r a).trans (h2.1 c a b d), fun i hi => (pup_k (by omega)).trans (h2.2.1 i hi), fun j hj => (pup_c (by omega)).trans (h2.2.2 j hj)⟩, (pup_k (by omega)).trans h3, (pup_k (by omega)).trans h4, pup_e rfl, (pup_k (by omega)).trans h6, pPl_c P h7 (fun i _ => pup_c (by omega)), fun i x hi => ?_⟩
  rw [pup_c (by omega), pup_c (by omega)]; exact h8 i x hi
theorem mS_pop {x : Int} (h : mS E0 tx st (x :: P) o w C T) : mS E0 tx st P o w C (pup T 0 16 (P.length : Int)) := by
  obtain ⟨h1, h2, h3, h4, h5, h6, h7, h8⟩ := h
  refine ⟨tR_c h1 (fun i hi => pup_k (by omega)) (pup_r (by omega)), ⟨fun c a b d => (pup_r a).trans (h2.1 c a b d), fun i hi => (pup_k (by omega)).trans (h2.2.1 i hi), fun j hj => (pup_c (by omega)).trans (h2.2.2 j hj)⟩, (pup_k (by omega)).trans h3, pup_e rfl, (pup_k (by omega)).trans h5, (pup_k (by omega)).trans h6, pPl_c P h7.2 (fun i _ => pup_c (by omega)), fun i x hi => ?_⟩
  rw [pup_c (by omega), pup_c (by omega)]; exact h8 i x hi
theorem mS_push (h : mS E0 tx st P o w C T) (x : Int) : mS E0 tx st (x :: P) o w C (pup (pup T 5 (P.length : Int) x) 0 16 ((P.length : Int) + 1)) := by
  obtain ⟨h1, h2, h3, h4, h5, h6, h7, h8⟩ := h
  refine ⟨tR_c h1 (fun i hi => by rw [pup_k (by omega), pup_c (by omega)]) (by rw [pup_r (by omega), pup_r (by omega)]), ⟨fun c a b d => by rw [pup_r a, pup_r d]; exact h2.1 c a b d, fun i hi => by rw [pup_k (by omega), pup_c (by omega)]; exact h2.2.1 i hi, fun j hj => by rw [pup_c (by omega), pup_c (by omega)]; exact h2.2.2 j hj⟩, by rw [pup_k (by omega), pup_c (by omega)]; exact h3, by rw [pup_e rfl, List.length_cons]; omega, by rw [pup_k (by omega), pup_c (by omega)]; exact h5, by rw [pup_k (by omega), pup_c (by omega)]; exact h6, ⟨by rw [pup_c (by omega), pup_e rfl], pPl_c P h7 (fun i hi => by rw [pup_c (by omega), pup_k (by omega)])⟩, fun i x hi => ?_⟩
  rw [pup_c (by omega), pup_c (by omega), pup_c (by omega), pup_c (by omega)]; exact h8 i x hi
theorem mS_emit (h : mS E0 tx st P o w C T) (hC : C.length ≤ 303) (a b : Int) : mS E0 tx st P o w (C ++ [(a, b)]) (pup (pup (pup T 3 (tx + 73 + 2 * (C.length : Int)) a) 3 (tx + 73 + 2 * (C.length : Int) + 1) b) 0 13 ((C.length : Int) + 1)) := by
  obtain ⟨h1, h2, h3, h4, h5, h6, h7, h8⟩ := h
  obtain ⟨X, eX⟩ : ∃ X, X = pup (pup (pup T 3 (tx + 73 + 2 * (C.length : Int)) a) 3 (tx + 73 + 2 * (C.length : Int) + 1) b) 0 13 ((C.length : Int) + 1) := ⟨_, rfl⟩
  rw [← eX]
  have x0 : ∀ i, i ≠ 13 → X 0 i = T 0 i := fun i hi => by rw [eX, pup_k hi, pup_c (by decide), pup_c (by decide)]
  have x13 : X 0 13 = (C.length : Int) + 1 := by rw [eX, pup_e rfl]
  have x3 : ∀ i, i ≠ tx + 73 + 2 * (C.length : Int) → i ≠ tx + 73 + 2 * (C.length : Int) + 1 → X 3 i = T 3 i := fun i hi hj => by rw [eX, pup_c (by decide), pup_k hj, pup_k hi]
  have x3a : X 3 (tx + 73 + 2 * (C.length : Int)) = a := by rw [eX, pup_c (by decide), pup_k (by omega), pup_e rfl]
  have x3b : X 3 (tx + 73 + 2 * (C.length : Int) + 1) = b := by rw [eX, pup_c (by decide), pup_e rfl]
  have xc : ∀ c, c ≠ 0 → c ≠ 3 → X c = T c := fun c p q => by rw [eX, pup_r p, pup_r q, pup_r q]
  refine ⟨tR_c h1 (fun i hi => x0 i (by omega)) (xc 4 (by omega) (by omega)), ⟨fun c p q r => (xc c p q).trans (h2.1 c p q r), fun i hi => (x0 i (by omega)).trans (h2.2.1 i hi), fun j hj => (x3 j (by omega) (by omega)).trans (h2.2.2 j hj)⟩, ?_, (x0 16 (by omega)).trans h4, (x0 17 (by omega)).trans h5, (x0 18 (by omega)).trans h6, pPl_c P h7 (fun i hi => by rw [xc 5 (by omega) (by omega)]), fun i x hi => ?_⟩
  · rw [x13, List.length_append, List.length_singleton]; omega
  by_cases hl : i < C.length
  · rw [List.getElem?_append_left hl] at hi
    rw [x3 _ (by omega) (by omega), x3 _ (by omega) (by omega)]
    exact h8 i x hi
  · have hl2 : i = C.length := by
      rcases Nat.lt_or_ge i (C ++ [(a, b)]).length with y | y
      · rw [List.length_append, List.length_singleton] at y; omega
      · rw [List.getElem?_eq_none y] at hi; cases hi
    subst hl2
    rw [List.getElem?_append_right (Nat.le_refl _), Nat.sub_self] at hi
    cases hi
    rw [show tx + 74 + 2 * (C.length : Int) = tx + 73 + 2 * (C.length : Int) + 1 by omega, x3a, x3b]
    exact ⟨rfl, rfl⟩
theorem k_emit (hE : E0 0 12 = tx) (t0 : 0 ≤ tx) (t1 : tx ≤ 2043) (h : mS E0 tx st P o w C T) (hC : C.length ≤ 303) (a b : Int) : p_X2_emit T a b = some (pup (pup (pup T 3 (tx + 73 + 2 * (C.length : Int)) a) 3 (tx + 73 + 2 * (C.length : Int) + 1) b) 0 13 ((C.length : Int) + 1)) := by
  have e12 : T 0 12 = tx := (h.2.1.2.1 12 (by omega)).trans hE
  have e13 : T 0 13 = (C.length : Int) := h.2.2.1
  refine pw_to ?_
  unfold p_X2_emit
  repeat' (first | with_reducible refine pw_some ?_ | with_reducible refine pw_iteT ?_ | with_reducible refine pw_iteF ?_ | with_reducible refine pw_biteT ?_ | with_reducible refine pw_biteF ?_ | with_reducible refine pw_exiteT ?_ | with_reducible refine pw_exiteF ?_ | with_reducible refine pw_inr ?_ | with_reducible refine pw_inl ?_ | ((with_reducible refine pw_ite (fun _ => ?_) (fun _ => ?_)) <;> first | (exfalso; omega) | skip) | ((with_reducible refine pw_in (fun _ _ => ?_) (fun _ => ?_)) <;> first | (exfalso; omega) | skip) | ((with_reducible refine pw_isIn (fun _ _ => ?_) (fun _ => ?_)) <;> first | (exfalso; omega) | skip) | ((with_reducible refine pw_kin ?_ (fun _ _ => ?_) (fun _ => ?_)) ; (omega) <;> first | (exfalso; omega) | skip) | ((with_reducible refine pw_ckin ?_ (fun _ _ => ?_) (fun _ => ?_)); (omega) <;> first | (exfalso; omega) | skip) | ((with_reducible refine pw_many ?_); try simp (disch := omega) only [e12, e13, pup_x, pup_k, pup_c, pup_r]) | ((with_reducible refine pw_has0 ?_)) | ((with_reducible refine pw_has2 ?_)) | ((with_reducible refine pw_strapped ?_); try simp (disch := omega) only [e12, e13, pup_x, pup_k, pup_c, pup_r]) | ((with_reducible refine pw_ald ?_ ?_ ?_); omega; omega; try simp (disch := omega) only [e12, e13, pup_x, pup_k, pup_c, pup_r]) | ((with_reducible refine pw_ast ?_ ?_ ?_); omega; omega) | ((with_reducible refine pw_idx ?_ ?_ ?_); omega; omega) | ((with_reducible refine pw_cp ?_ ?_ ?_ ?_ ?_ ?_); omega; omega; omega; omega; omega) | ((with_reducible refine pw_p32 ?_ ?_ ?_); omega; omega) | ((with_reducible refine pw_p64 ?_ ?_ ?_); omega; omega) | ((with_reducible refine pw_zlt ?_); try simp (disch := omega) only [e12, e13, pup_x, pup_k, pup_c, pup_r]) | ((with_reducible refine pw_bo ?_ ?_); omega) | ((with_reducible refine pw_mod ?_ ?_ ?_); omega; omega) | ((with_reducible refine pw_div ?_ ?_ ?_); omega; omega) | ((with_reducible refine pw_bite (fun _ => ?_) (fun _ => ?_)) <;> first | (exfalso; omega) | skip) | ((with_reducible refine pw_bsome ?_)) | ((with_reducible refine pw_bzlt ?_)) | ((with_reducible refine pw_bp32 ?_ ?_ ?_); omega; omega) | ((with_reducible refine pw_bass ?_)) | ((with_reducible refine pw_bex ?_)) | ((with_reducible refine pw_exr ?_)) | ((with_reducible refine pw_exl ?_)) | ((with_reducible refine pw_exite (fun _ => ?_) (fun _ => ?_)) <;> first | (exfalso; omega) | skip) | ((with_reducible refine pw_exz ?_)) | ((with_reducible refine pw_exp ?_ ?_ ?_); omega; omega) | ((with_reducible refine pw_exb ?_)))
  rfl
theorem k_opened (hl : aLx lx E0 nn) (h : mS E0 tx st P o w C T) (hv : aV nn st) (hP : P.length < 150) (o0 : 0 ≤ o) (o1 : o ≤ 8) (x : Int) : (o = 8 → p_X2_opened T x = some (3, T)) ∧ (o ≠ 8 → ∃ T', p_X2_opened T x = some (0, T') ∧ mS E0 tx (aNx lx st) (x :: P) (o + 1) w C T') := by
  have e17 : T 0 17 = o := h.2.2.2.2.1
  have e16 : T 0 16 = (P.length : Int) := h.2.2.2.1
  refine ⟨fun ho => ?_, fun ho => ?_⟩
  · unfold p_X2_opened
    dsimp only [zlt]
    rw [e17, if_pos ho]
  · obtain ⟨T', e, hT⟩ := k_nx hl (mS_push (mS_o h (o + 1)) x) hv
    refine ⟨T', pw_to ?_, hT⟩
    unfold p_X2_opened
    repeat' (first | with_reducible refine pw_some ?_ | with_reducible refine pw_iteT ?_ | with_reducible refine pw_iteF ?_ | with_reducible refine pw_biteT ?_ | with_reducible refine pw_biteF ?_ | with_reducible refine pw_exiteT ?_ | with_reducible refine pw_exiteF ?_ | with_reducible refine pw_inr ?_ | with_reducible refine pw_inl ?_ | ((with_reducible refine pw_ite (fun _ => ?_) (fun _ => ?_)) <;> first | (exfalso; omega) | skip) | ((with_reducible refine pw_in (fun _ _ => ?_) (fun _ => ?_)) <;> first | (exfalso; omega) | skip) | ((with_reducible refine pw_isIn (fun _ _ => ?_) (fun _ => ?_)) <;> first | (exfalso; omega) | skip) | ((with_reducible refine pw_kin ?_ (fun _ _ => ?_) (fun _ => ?_)) ; (omega) <;> first | (exfalso; omega) | skip) | ((with_reducible refine pw_ckin ?_ (fun _ _ => ?_) (fun _ => ?_)); (omega) <;> first | (exfalso; omega) | skip) | ((with_reducible refine pw_many ?_); try simp (disch := omega) only [e17, e16, pup_x, pup_k, pup_c, pup_r]) | ((with_reducible refine pw_has0 ?_)) | ((with_reducible refine pw_has2 ?_)) | ((with_reducible refine pw_strapped ?_); try simp (disch := omega) only [e17, e16, pup_x, pup_k, pup_c, pup_r]) | ((with_reducible refine pw_ald ?_ ?_ ?_); omega; omega; try simp (disch := omega) only [e17, e16, pup_x, pup_k, pup_c, pup_r]) | ((with_reducible refine pw_ast ?_ ?_ ?_); omega; omega) | ((with_reducible refine pw_idx ?_ ?_ ?_); omega; omega) | ((with_reducible refine pw_cp ?_ ?_ ?_ ?_ ?_ ?_); omega; omega; omega; omega; omega) | ((with_reducible refine pw_p32 ?_ ?_ ?_); omega; omega) | ((with_reducible refine pw_p64 ?_ ?_ ?_); omega; omega) | ((with_reducible refine pw_zlt ?_); try simp (disch := omega) only [e17, e16, pup_x, pup_k, pup_c, pup_r]) | ((with_reducible refine pw_bo ?_ ?_); omega) | ((with_reducible refine pw_mod ?_ ?_ ?_); omega; omega) | ((with_reducible refine pw_div ?_ ?_ ?_); omega; omega) | ((with_reducible refine pw_bite (fun _ => ?_) (fun _ => ?_)) <;> first | (exfalso; omega) | skip) | ((with_reducible refine pw_bsome ?_)) | ((with_reducible refine pw_bzlt ?_)) | ((with_reducible refine pw_bp32 ?_ ?_ ?_); omega; omega) | ((with_reducible refine pw_bass ?_)) | ((with_reducible refine pw_bex ?_)) | ((with_reducible refine pw_exr ?_)) | ((with_reducible refine pw_exl ?_)) | ((with_reducible refine pw_exite (fun _ => ?_) (fun _ => ?_)) <;> first | (exfalso; omega) | skip) | ((with_reducible refine pw_exz ?_)) | ((with_reducible refine pw_exp ?_ ?_ ?_); omega; omega) | ((with_reducible refine pw_exb ?_)))
    exact pw_beq e (pw_some rfl)
theorem k_openAt : ∀ (P : List Int) (F : Nat), P.length < F → P.length < 150 → pPl T P → zLoop (pb_X2_openAt_7 T) F ((P.length : Int) - 1) = some (oA P)
  | _, 0, h, _, _ => absurd h (Nat.not_lt_zero _)
  | [], F + 1, _, _, _ => zLoop_l rfl
  | x :: r, F + 1, hF, hP, h => by
    rw [List.length_cons] at hF hP
    have e : (((x :: r).length : Nat) : Int) - 1 = (r.length : Int) := by rw [List.length_cons]; omega
    rw [e]
    have al : pald T 5 160 (r.length : Int) = some x := by
      rw [← h.1]; exact if_pos (by omega)
    unfold oA
    by_cases hx : 40 ≤ x
    · rw [if_pos hx]
      refine zLoop_l ?_
      unfold pb_X2_openAt_7
      rw [if_neg (by omega), al]
      dsimp only [Option.bind_some]
      rw [if_pos hx]
    · rw [if_neg hx, ← k_openAt r F (by omega) (by omega) h.2]
      refine zLoop_r ?_
      unfold pb_X2_openAt_7
      rw [if_neg (by omega), al]
      dsimp only [Option.bind_some]
      rw [if_neg hx, p32_n (by omega) (by omega)]
      rfl
theorem oA_N : ∀ (P : List Int), pPl T P → (0 ≤ oA P ∧ oA P < (P.length : Int) ∧ T 5 (oA P) = oN P ∧ 40 ≤ oN P) ∨ (oA P < 0 ∧ oN P = -1)
  | [], _ => Or.inr ⟨by show (-1 : Int) < 0; omega, rfl⟩
  | x :: r, h => by
    unfold oA oN
    by_cases hx : 40 ≤ x
    · rw [if_pos hx, if_pos hx, List.length_cons]
      exact Or.inl ⟨by omega, by omega, h.1, hx⟩
    · rw [if_neg hx, if_neg hx, List.length_cons]
      rcases oA_N r h.2 with ⟨a, b, c⟩ | a
      · exact Or.inl ⟨a, by omega, c⟩
      · exact Or.inr a
theorem k_openAt' (h : mS E0 tx st P o w C T) (hP : P.length < 150) : p_X2_openAt T = some (oA P) := by
  have e16 : T 0 16 = (P.length : Int) := h.2.2.2.1
  unfold p_X2_openAt
  dsimp only [zlt]
  rw [e16, p32_n (by omega) (by omega), k_openAt P zFuel (by unfold zFuel; omega) hP h.2.2.2.2.2.2.1]
  rfl
theorem k_openNow (h : mS E0 tx st P o w C T) (hP : P.length < 150) : p_X2_openNow T = some (oN P) := by
  unfold p_X2_openNow
  rw [k_openAt' h hP]
  dsimp only [Option.bind_some]
  rcases oA_N P h.2.2.2.2.2.2.1 with ⟨a, b, c, -⟩ | ⟨a, b⟩
  · rw [if_pos a]
    have al : pald T 5 160 (oA P) = some (oN P) := by
      rw [← c]; exact if_pos (by omega)
    rw [al]; rfl
  · rw [if_neg (by omega), b]
theorem cP_i : ∀ (P : List Int) (F : Nat), P.length < F → P.length < 150 → pPl T P → (zLoop (pb_X2_isCompared_7 T) F ((P.length : Int) - 1) = some (-1) ∧ cP P = 0) ∨ ∃ k x, zLoop (pb_X2_isCompared_7 T) F ((P.length : Int) - 1) = some k ∧ 0 ≤ k ∧ k < (P.length : Int) ∧ T 5 k = x ∧ cP P = if rk x = 4 then 1 else 0
  | _, 0, h, _, _ => absurd h (Nat.not_lt_zero _)
  | [], F + 1, _, _, _ => Or.inl ⟨zLoop_l rfl, rfl⟩
  | x :: r, F + 1, hF, hP, h => by
    rw [List.length_cons] at hF hP
    have e : (((x :: r).length : Nat) : Int) - 1 = (r.length : Int) := by rw [List.length_cons]; omega
    rw [e]
    have al : pald T 5 160 (r.length : Int) = some x := by
      rw [← h.1]; exact if_pos (by omega)
    unfold cP
    by_cases hx : rk x ≤ 4
    · rw [if_pos hx]
      refine Or.inr ⟨(r.length : Int), x, zLoop_l ?_, by omega, by rw [List.length_cons]; omega, h.1, rfl⟩
      unfold pb_X2_isCompared_7
      rw [if_neg (by omega), al]
      dsimp only [Option.bind_some]
      rw [k_rank]
      dsimp only [Option.bind_some]
      rw [if_pos hx]
    · rw [if_neg hx]
      have b1 : pb_X2_isCompared_7 T (r.length : Int) = some (.inr ((r.length : Int) - 1)) := by
        unfold pb_X2_isCompared_7
        rw [if_neg (by omega), al]
        dsimp only [Option.bind_some]
        rw [k_rank]
        dsimp only [Option.bind_some]
        rw [if_neg hx, p32_n (by omega) (by omega)]
        rfl
      rw [zLoop_r b1]
      rcases cP_i r F (by omega) (by omega) h.2 with a | ⟨k, y, a, b, c, d⟩
      · exact Or.inl a
      · exact Or.inr ⟨k, y, a, b, by rw [List.length_cons]; omega, d⟩
theorem k_isCompared (h : mS E0 tx st P o w C T) (hP : P.length < 150) : p_X2_isCompared T = some (cP P) := by
  have e16 : T 0 16 = (P.length : Int) := h.2.2.2.1
  unfold p_X2_isCompared
  dsimp only [zlt]
  rw [e16, p32_n (by omega) (by omega)]
  rcases cP_i P zFuel (by unfold zFuel; omega) hP h.2.2.2.2.2.2.1 with ⟨a, b⟩ | ⟨k, x, a, b, c, d, e⟩
  · rw [a]
    dsimp only [Option.bind_some]
    rw [if_pos (by omega), b]
  · rw [a]
    dsimp only [Option.bind_some]
    have al : pald T 5 160 k = some x := by
      rw [← d]; exact if_pos (by omega)
    rw [if_neg (by omega), al]
    dsimp only [Option.bind_some]
    rw [k_rank]
    dsimp only [Option.bind_some]
    rw [e]
    split <;> rfl
/-- whether something is asked from here on -/
def aA : List Int → Int
  | [] => 0
  | x :: r => if oN (x :: r) = 41 ∧ (40 ≤ x ∨ (1 ≤ rk x ∧ rk x ≤ 3)) then 1 else 0
theorem k_ahead (h : mS E0 tx st P o w C T) (hP : P.length < 150) : p_X2_isAskAhead T = some (aA P) := by
  have e16 : T 0 16 = (P.length : Int) := h.2.2.2.1
  unfold p_X2_isAskAhead
  rw [k_openNow h hP]
  dsimp only [Option.bind_some, zlt]
  cases P with
  | nil =>
    rw [if_neg (by show ¬ (-1 : Int) = 41; omega)]; rfl
  | cons x r =>
    rw [List.length_cons] at e16 hP
    have h7 := h.2.2.2.2.2.2.1
    have al : pald T 5 160 (T 0 16 - 1) = some x := by
      rw [e16, show ((r.length + 1 : Nat) : Int) - 1 = (r.length : Int) by omega, ← h7.1]; exact if_pos (by omega)
    show _ = some (if oN (x :: r) = 41 ∧ (40 ≤ x ∨ (1 ≤ rk x ∧ rk x ≤ 3)) then 1 else 0)
    by_cases h41 : oN (x :: r) = 41
    · rw [if_pos h41, p32_n (by omega) (by omega), al]
      dsimp only [Option.bind_some]
      by_cases hx : 40 ≤ x
      · rw [if_pos hx, if_pos ⟨h41, Or.inl hx⟩]
      · rw [if_neg hx, p32_n (by omega) (by omega)]
        rw [al]
        dsimp only [Option.bind_some]
        rw [k_rank]
        dsimp only [Option.bind_some]
        rw [k_isIn]
        by_cases hk : 1 ≤ rk x ∧ rk x ≤ 3
        · rw [if_pos hk, if_pos ⟨h41, Or.inr hk⟩]; rfl
        · rw [if_neg hk, if_neg (fun y => y.2.elim hx hk)]; rfl
    · rw [if_neg h41, if_neg (fun y => h41 y.1)]
theorem cnt_0 : ∀ R : List Int, 0 ≤ cntU R ∧ cntU R ≤ (R.length : Int)
  | [] => ⟨Int.le_refl _, Int.le_refl _⟩
  | x :: r => by
    have := cnt_0 r
    rw [List.length_cons]
    unfold cntU
    split <;> omega
theorem emz_a (R R' : List Int) : emz (R ++ R') = emz R ++ emz R' := List.map_append
theorem cnt_a : ∀ (R R' : List Int), cntU (R ++ R') = cntU R + cntU R'
  | [], R' => by show cntU R' = 0 + cntU R'; omega
  | x :: r, R' => by
    show _ + cntU (r ++ R') = _ + cntU r + cntU R'
    rw [cnt_a r R']; omega
set_option maxHeartbeats 1000000 in
theorem k_settleL (hE : E0 0 12 = tx) (t0 : 0 ≤ tx) (t1 : tx ≤ 2043) {q : Int} (q1 : 1 ≤ q) : ∀ (R : List Int) (F : Nat) (o : Int) (C : aC) (T : zP), R.length < F → mS E0 tx st (R ++ P) o w C T → (∀ x ∈ R, q ≤ rk x) → lowP q P → (R ++ P).length < 150 → C.length + R.length ≤ 303 → -100 ≤ o - cntU R → o ≤ 1000 → ∃ T', zLoop (pb_X2_settle_0 q) F T = some T' ∧ mS E0 tx st P (o - cntU R) w (C ++ emz R) T'
  | _, 0, _, _, _, h, _, _, _, _, _, _, _ => absurd h (Nat.not_lt_zero _)
  | [], F + 1, o, C, T, _, h, _, hp, hP, _, _, _ => by
    refine ⟨T, zLoop_l ?_, ?_⟩
    · have e16 : T 0 16 = (P.length : Int) := h.2.2.2.1
      unfold pb_X2_settle_0
      dsimp only [zlt]
      cases P with
      | nil => rw [e16, if_pos (by show (0 : Int) ≤ 0; omega)]
      | cons x r =>
        rw [List.nil_append, List.length_cons] at hP
        rw [List.length_cons] at e16
        have h7 := h.2.2.2.2.2.2.1
        have al : pald T 5 160 (T 0 16 - 1) = some x := by
          rw [e16, show ((r.length + 1 : Nat) : Int) - 1 = (r.length : Int) by omega, ← h7.1]; exact if_pos (by omega)
        rw [if_neg (by omega), p32_n (by omega) (by omega), al]
        dsimp only [Option.bind_some]
        rw [k_rank]
        dsimp only [Option.bind_some]
        exact if_pos hp
    · show mS E0 tx st P (o - 0) w (C ++ []) T
      rw [List.append_nil, Int.sub_zero]; exact h
  | x :: R, F + 1, o, C, T, hF, h, hr, hp, hP, hC, ho, ho2 => by
    rw [List.length_cons] at hF hC
    rw [List.cons_append, List.length_cons] at hP
    have e16 : T 0 16 = (((R ++ P).length : Nat) : Int) + 1 := by
      have := h.2.2.2.1
      rw [List.cons_append, List.length_cons] at this; omega
    have h7 := h.2.2.2.2.2.2.1
    have hx := hr x List.mem_cons_self
    have h5x : T 5 (((R ++ P).length : Nat) : Int) = x := h7.1
    have hpop := mS_pop (P := R ++ P) (x := x) h
    have hem := mS_emit hpop (by omega) x 0
    have hke := k_emit hE t0 t1 hpop (by omega) x 0
    obtain ⟨T1, eT1⟩ : ∃ T1, T1 = pup (pup (pup (pup T 0 16 (((R ++ P).length : Nat) : Int)) 3 (tx + 73 + 2 * (C.length : Int)) x) 3 (tx + 73 + 2 * (C.length : Int) + 1) 0) 0 13 ((C.length : Int) + 1) := ⟨_, rfl⟩
    rw [← eT1] at hem hke
    have cx : cntU (x :: R) = (if rk x = 7 ∨ x = 20 then 1 else 0) + cntU R := rfl
    have t16 : T1 0 16 = (((R ++ P).length : Nat) : Int) := hem.2.2.2.1
    have t17 : T1 0 17 = o := hem.2.2.2.2.1
    have t5 : T1 5 (((R ++ P).length : Nat) : Int) = x := by
      rw [eT1, pup_c (by omega), pup_c (by omega), pup_c (by omega), pup_c (by omega)]; exact h5x
    have step : ∃ o', o' = o - (if rk x = 7 ∨ x = 20 then 1 else 0) ∧ ∃ T2, pb_X2_settle_0 q T = some (.inr T2) ∧ mS E0 tx st (R ++ P) o' w (C ++ [(x, 0)]) T2 := by
      refine ⟨_, rfl, ?_⟩
      have b1 : ∀ X, pw (zEx (σ := Unit) (if rk x = 7 then (some (.inr ())) else (if x = 20 then (some (.inr ())) else (some (.inl (.inr T1))))) fun _ => zlt (T1 0 17) fun v24 => p32 (v24 - 1) fun x3 => zlt (pup T1 0 17 x3) fun S25 => some (.inr S25)) (fun z => z = X) → pb_X2_settle_0 q T = some X := by
        intro X hX
        refine pw_to ?_
        unfold pb_X2_settle_0
        have ee : (((R ++ P).length : Nat) : Int) + 1 - 1 = (((R ++ P).length : Nat) : Int) := by omega
        refine pw_zlt ?_
        rw [e16]
        refine pw_ite (fun y => absurd y (by omega)) (fun _ => pw_zlt (pw_p32 (by omega) (by omega) ?_))
        rw [ee]
        refine pw_ald (by omega) (by omega) ?_
        rw [h5x]
        refine pw_beq (k_rank x) (pw_ite (fun y => absurd y (by omega)) (fun _ => pw_zlt (pw_p32 (by omega) (by omega) (pw_zlt (pw_zlt ?_)))))
        rw [ee, pup_e rfl]
        refine pw_ald (by omega) (by omega) ?_
        rw [pup_c (by omega), h5x]
        refine pw_beq hke (pw_zlt ?_)
        rw [t16]
        refine pw_ald (by omega) (by omega) ?_
        rw [t5]
        refine pw_beq (k_rank x) ?_
        have e2 : (zlt (((R ++ P).length : Nat) : Int) fun v22 => (pald T1 5 160 v22).bind fun v23 => if v23 = 20 then (some (.inr ()) : Option ((zP ⊕ zP) ⊕ Unit)) else (some (.inl (.inr T1)))) = if x = 20 then (some (.inr ())) else (some (.inl (.inr T1))) := by
          dsimp only [zlt]
          have al : pald T1 5 160 (((R ++ P).length : Nat) : Int) = some x := by
            rw [← t5]; exact if_pos (by omega)
          rw [al]; rfl
        rw [e2]
        exact hX
      by_cases hq : rk x = 7 ∨ x = 20
      · rw [if_pos hq]
        refine ⟨pup T1 0 17 (o - 1), b1 _ ?_, mS_o hem _⟩
        have e3 : (if rk x = 7 then (some (.inr ()) : Option ((zP ⊕ zP) ⊕ Unit)) else (if x = 20 then (some (.inr ())) else (some (.inl (.inr T1))))) = some (.inr ()) := by
          by_cases y : rk x = 7
          · rw [if_pos y]
          · rw [if_neg y, if_pos (hq.resolve_left y)]
        rw [e3, t17]
        have c0 := cnt_0 R
        rw [if_pos hq] at cx
        exact pw_exr (pw_zlt (pw_p32 (by omega) (by omega) (pw_zlt (pw_some rfl))))
      · rw [if_neg hq, Int.sub_zero]
        refine ⟨T1, b1 _ ?_, hem⟩
        rw [if_neg (fun y => hq (Or.inl y)), if_neg (fun y => hq (Or.inr y))]
        exact pw_exl rfl
    obtain ⟨o', ho', T2, e1, hm⟩ := step
    have cb : o' - cntU R = o - cntU (x :: R) := by rw [cx, ho']; omega
    have ho2' : o' ≤ 1000 := by
      rw [ho']
      split <;> omega
    obtain ⟨T', e2, hm2⟩ := k_settleL hE t0 t1 q1 R F o' (C ++ [(x, 0)]) T2 (by omega) hm (fun y hy => hr y (List.mem_cons_of_mem _ hy)) hp (by omega) (by rw [List.length_append, List.length_singleton]; omega) (by omega) ho2'
    refine ⟨T', (zLoop_r e1).trans e2, ?_⟩
    rw [cb, List.append_assoc] at hm2
    exact hm2
theorem k_settle (hE : E0 0 12 = tx) (t0 : 0 ≤ tx) (t1 : tx ≤ 2043) {q : Int} (q1 : 1 ≤ q) (R : List Int) (h : mS E0 tx st (R ++ P) o w C T) (hr : ∀ x ∈ R, q ≤ rk x) (hp : lowP q P) (hP : (R ++ P).length < 150) (hC : C.length + R.length ≤ 303) (ho : -100 ≤ o - cntU R) (ho2 : o ≤ 1000) : ∃ T', p_X2_settle T q = some T' ∧ mS E0 tx st P (o - cntU R) w (C ++ emz R) T' := by
  obtain ⟨T', e, hm⟩ := k_settleL hE t0 t1 q1 R zFuel o C T (by rw [List.length_append] at hP; unfold zFuel; omega) h hr hp hP hC ho ho2
  refine ⟨T', ?_, hm⟩
  unfold p_X2_settle
  rw [e]; rfl
end
