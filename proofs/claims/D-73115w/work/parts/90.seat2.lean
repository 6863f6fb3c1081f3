/-! PURE, seatings: both lay the same rows -/
set_option maxRecDepth 100000
theorem sMem {n : Nat} (hn : 1 ≤ n) (h : sChk n = true) {r : List Int} (hr : r ∈ sRows n) : sOk n (0 :: r) := by
  unfold sChk at h
  simp only [Bool.and_eq_true, decide_eq_true_eq, List.all_eq_true] at h
  obtain ⟨h1, h2⟩ := h.2 r hr
  refine ⟨by rw [List.length_cons, h1]; omega, fun s a b => ?_⟩
  unfold sG
  by_cases hs : s = 0
  · subst hs
    show 0 ≤ (0 : Int) ∧ _
    exact ⟨Int.le_refl _, by show (0 : Int) < _; omega⟩
  · rw [show s.toNat = (s - 1).toNat + 1 by omega, List.getD_cons_succ]
    have hl : (s - 1).toNat < r.length := by omega
    rw [List.getD_eq_getElem?_getD, List.getElem?_eq_getElem hl]
    exact h2 _ (List.getElem_mem hl)
theorem sChk_n {n : Nat} (h1 : 1 ≤ n) (h6 : n ≤ 6) : sChk n = true := by
  match n, h1, h6 with
  | 1, _, _ => exact sChk_1
  | 2, _, _ => exact sChk_2
  | 3, _, _ => exact sChk_3
  | 4, _, _ => exact sChk_4
  | 5, _, _ => exact sChk_5
  | 6, _, _ => exact sChk_6
def sSp (T : zP) (r : List Int) : Int := match p_X2_spiteOfRow (fun c => if c = 10 then sG r else T c) with | some v => v | none => 0
section
variable {W : pW} {S T S0 T0 : zP} {n : Nat} {q : sSt}
theorem k_sp (hs : pSpi (fun k => S0 (9 + k.toNat)) (T0 1)) (hn : S0 2 0 = T0 1 0) (en : T0 1 0 = (n : Int)) (n6 : n ≤ 6) {r : List Int} (hr : sOk n r) :
    (0 ≤ sSp T0 r ∧ sSp T0 r ≤ 594) ∧ (∀ S : zP, (∀ c, 2 ≤ c → c ≤ 15 → S c = S0 c) → (∀ s, 0 ≤ s → s < (n : Int) → S 146 s = sG r s) → p_X0_spiteAround S 146 6 0 = some (sSp T0 r)) ∧ ∀ T : zP, T 1 = T0 1 → (∀ s, 0 ≤ s → s < (n : Int) → T 10 s = sG r s) → p_X2_spiteOfRow T = some (sSp T0 r) := by
  have gen : ∀ S T : zP, (∀ c, 2 ≤ c → c ≤ 15 → S c = S0 c) → (∀ s, 0 ≤ s → s < (n : Int) → S 146 s = sG r s) → T 1 = T0 1 → (∀ s, 0 ≤ s → s < (n : Int) → T 10 s = sG r s) → ∃ v, p_X0_spiteAround S 146 6 0 = some v ∧ p_X2_spiteOfRow T = some v ∧ 0 ≤ v ∧ v ≤ 594 := fun S T h1 h2 h3 h4 => by
    refine k_spiteRow (S := S) (T := T) (c := 146) (na := 6) (o := 0) ?_ ?_ ?_ ?_ ?_ ?_ ?_ ?_ ?_
    · rw [h3]
      refine pSpi_c hs (fun _ _ _ => rfl) (fun a i a0 a1 _ _ => ?_)
      show S _ _ = S0 _ _
      rw [h1 _ (by omega) (by omega)]
    · rw [h3, h1 2 (by omega) (by omega)]; exact hn
    · rw [h3]; omega
    · rw [h3]; omega
    · omega
    · rw [h3]; omega
    · omega
    · intro s a b
      rw [h3] at b ⊢
      have e : (0 : Int) + s = s := by omega
      rw [e, h2 s a (by omega), en]; exact hr.2 s a (by omega)
    · intro s a b
      rw [h3] at b
      have e : (0 : Int) + s = s := by omega
      rw [e, h2 s a (by omega), h4 s a (by omega)]
  have a1 := gen (fun c => if c = 146 then sG r else S0 c) (fun c => if c = 10 then sG r else T0 c) (fun c _ _ => if_neg (by omega)) (fun s _ _ => rfl) rfl (fun s _ _ => rfl)
  obtain ⟨v, -, v2, v3, v4⟩ := a1
  have ev : sSp T0 r = v := by unfold sSp; rw [v2]
  rw [ev]
  refine ⟨⟨v3, v4⟩, fun S h1 h2 => ?_, fun T h1 h2 => ?_⟩
  · obtain ⟨x, x1, x2, -⟩ := gen S (fun c => if c = 10 then sG r else T0 c) h1 h2 rfl (fun s _ _ => rfl)
    rw [v2] at x2
    rw [x1, x2]
  · obtain ⟨x, x1, x2, -⟩ := gen (fun c => if c = 146 then sG r else S0 c) T (fun c _ _ => if_neg (by omega)) (fun s _ _ => rfl) h1 h2
    obtain ⟨y, y1, y2, -⟩ := gen (fun c => if c = 146 then sG r else S0 c) (fun c => if c = 10 then sG r else T0 c) (fun c _ _ => if_neg (by omega)) (fun s _ _ => rfl) rfl (fun s _ _ => rfl)
    rw [v2] at y2
    rw [x1] at y1
    rw [x2, y1, y2]
/-! the component -/
def sRC (n : Nat) (S0 S : zP) (q : sSt) : Prop := (∀ c, c ≠ 0 → c ≠ 146 → c ≠ 147 → S c = S0 c) ∧ (∀ i, i < 10 ∨ 12 < i → S 0 i = S0 0 i) ∧ S 0 10 = q.1 ∧ S 0 11 = q.2.1 ∧ S 0 12 = q.2.2.1 ∧ ∀ s, 0 ≤ s → s < (n : Int) → S 147 s = sG q.2.2.2 s
theorem sStep_g (sp : List Int → Int) (r : List Int) (h : 0 ≤ q.2.2.1) : 0 ≤ (sStep sp q r).2.2.1 ∧ (sStep sp q r).2.2.1 ≤ q.2.2.1 + 1 := by
  unfold sStep
  dsimp only
  split
  · omega
  · split <;> omega
theorem sFold_g (f : sSt → List Int → sSt) (hf : ∀ q r, 0 ≤ q.2.2.1 → 0 ≤ (f q r).2.2.1 ∧ (f q r).2.2.1 ≤ q.2.2.1 + 1) : ∀ (L : List (List Int)) (q : sSt), 0 ≤ q.2.2.1 → 0 ≤ (L.foldl f q).2.2.1 ∧ (L.foldl f q).2.2.1 ≤ q.2.2.1 + (L.length : Int)
  | [], q, h => by
    show 0 ≤ q.2.2.1 ∧ q.2.2.1 ≤ _
    rw [List.length_nil]; omega
  | r :: L, q, h => by
    have h1 := hf q r h
    have h2 := sFold_g f hf L (f q r) h1.1
    rw [List.foldl_cons, List.length_cons]
    omega
set_option maxHeartbeats 1000000 in
theorem k_leaf {sp : List Int → Int} {r : List Int} {rec : zP → Int → Int → Option zP} {a1 : Int} (hsp : p_X0_spiteAround S 146 6 0 = some (sp r)) (h : sRC n S0 S q) (n6 : n ≤ 6) (hr : ∀ s, 0 ≤ s → s < (n : Int) → S 146 s = sG r s) (g0 : 0 ≤ q.2.2.1) (g1 : q.2.2.1 ≤ 1000000) : ∃ S', qp_X0_seatsFrom rec S a1 0 = some S' ∧ sRC n S0 S' (sStep sp q r) ∧ S' 146 = S 146 := by
  obtain ⟨h1, h2, h3, h4, h5, h6⟩ := h
  obtain ⟨v, ev⟩ : ∃ v, v = sp r := ⟨_, rfl⟩
  rw [← ev] at hsp
  have hm : p_J7_max q.2.1 v = some (if q.2.1 < v then v else q.2.1) := by
    unfold p_J7_max
    split <;> rfl
  have pick : ∀ X : zP, qp_X0_seatsFrom rec S a1 0 = some X → (∀ c, c ≠ 0 → c ≠ 147 → X c = S c) → (∀ i, i < 10 ∨ 12 < i → X 0 i = S 0 i) → X 0 10 = (sStep sp q r).1 → X 0 11 = (sStep sp q r).2.1 → X 0 12 = (sStep sp q r).2.2.1 → (∀ s, 0 ≤ s → s < (n : Int) → X 147 s = sG (sStep sp q r).2.2.2 s) → ∃ S', qp_X0_seatsFrom rec S a1 0 = some S' ∧ sRC n S0 S' (sStep sp q r) ∧ S' 146 = S 146 := fun X x1 x2 x3 x4 x5 x6 x7 =>
    ⟨X, x1, ⟨fun c a b d => (x2 c a d).trans (h1 c a b d), fun i hi => (x3 i hi).trans (h2 i hi), x4, x5, x6, x7⟩, x2 146 (by omega) (by omega)⟩
  unfold sStep at pick ⊢
  dsimp only at pick ⊢
  rw [← ev] at pick ⊢
  by_cases c1 : v < q.1
  · rw [if_pos c1, if_pos c1, if_pos c1] at pick ⊢
    refine pick (pup (pup (pcpy (pup S 0 11 (if q.2.1 < v then v else q.2.1)) 146 0 147 0 ((6 : Nat) : Int)) 0 12 1) 0 10 v) (pw_to ?_) (fun c a b => ?_) (fun i hi => ?_) ?_ ?_ ?_ (fun s a b => ?_)
    · unfold qp_X0_seatsFrom p_X1_copy
      refine pw_ite (fun _ => ?_) (fun x => absurd rfl x)
      refine pw_beq hsp (pw_zlt ?_)
      rw [h4]
      refine pw_beq hm ?_
      repeat' (first | with_reducible refine pw_some ?_ | with_reducible refine pw_iteT ?_ | with_reducible refine pw_iteF ?_ | with_reducible refine pw_biteT ?_ | with_reducible refine pw_biteF ?_ | with_reducible refine pw_exiteT ?_ | with_reducible refine pw_exiteF ?_ | with_reducible refine pw_inr ?_ | with_reducible refine pw_inl ?_ | ((with_reducible refine pw_ite (fun _ => ?_) (fun _ => ?_)) <;> first | (exfalso; omega) | skip) | ((with_reducible refine pw_in (fun _ _ => ?_) (fun _ => ?_)) <;> first | (exfalso; omega) | skip) | ((with_reducible refine pw_isIn (fun _ _ => ?_) (fun _ => ?_)) <;> first | (exfalso; omega) | skip) | ((with_reducible refine pw_kin ?_ (fun _ _ => ?_) (fun _ => ?_)) ; (omega) <;> first | (exfalso; omega) | skip) | ((with_reducible refine pw_ckin ?_ (fun _ _ => ?_) (fun _ => ?_)); (omega) <;> first | (exfalso; omega) | skip) | ((with_reducible refine pw_many ?_); try simp (disch := omega) only [pcpy_c, h3, pup_x, pup_k, pup_c, pup_r]) | ((with_reducible refine pw_has0 ?_)) | ((with_reducible refine pw_has2 ?_)) | ((with_reducible refine pw_strapped ?_); try simp (disch := omega) only [pcpy_c, h3, pup_x, pup_k, pup_c, pup_r]) | ((with_reducible refine pw_ald ?_ ?_ ?_); omega; omega; try simp (disch := omega) only [pcpy_c, h3, pup_x, pup_k, pup_c, pup_r]) | ((with_reducible refine pw_ast ?_ ?_ ?_); omega; omega) | ((with_reducible refine pw_idx ?_ ?_ ?_); omega; omega) | ((with_reducible refine pw_cp ?_ ?_ ?_ ?_ ?_ ?_); omega; omega; omega; omega; omega) | ((with_reducible refine pw_p32 ?_ ?_ ?_); omega; omega) | ((with_reducible refine pw_p64 ?_ ?_ ?_); omega; omega) | ((with_reducible refine pw_zlt ?_); try simp (disch := omega) only [pcpy_c, h3, pup_x, pup_k, pup_c, pup_r]) | ((with_reducible refine pw_bo ?_ ?_); omega) | ((with_reducible refine pw_mod ?_ ?_ ?_); omega; omega) | ((with_reducible refine pw_div ?_ ?_ ?_); omega; omega) | ((with_reducible refine pw_bite (fun _ => ?_) (fun _ => ?_)) <;> first | (exfalso; omega) | skip) | ((with_reducible refine pw_bsome ?_)) | ((with_reducible refine pw_bzlt ?_)) | ((with_reducible refine pw_bp32 ?_ ?_ ?_); omega; omega) | ((with_reducible refine pw_bass ?_)) | ((with_reducible refine pw_bex ?_)) | ((with_reducible refine pw_exr ?_)) | ((with_reducible refine pw_exl ?_)) | ((with_reducible refine pw_exite (fun _ => ?_) (fun _ => ?_)) <;> first | (exfalso; omega) | skip) | ((with_reducible refine pw_exz ?_)) | ((with_reducible refine pw_exp ?_ ?_ ?_); omega; omega) | ((with_reducible refine pw_exb ?_)))
      rfl
    · rw [pup_r a, pup_r a]
      funext i
      rw [pcpy_c b, pup_c a]
    · rw [pup_k (by omega), pup_k (by omega), pcpy_c (by omega), pup_k (by omega)]
    · rw [pup_e rfl]
    · rw [pup_k (by omega), pup_k (by omega), pcpy_c (by omega), pup_e rfl]
    · rw [pup_k (by omega), pup_e rfl]
    · rw [pup_c (by omega), pup_c (by omega), pcpy_i (by omega) (by omega), pup_c (by omega), show (0 : Int) + (s - 0) = s by omega]
      exact hr s a b
  · rw [if_neg c1, if_neg c1, if_neg c1] at pick ⊢
    by_cases c2 : v = q.1
    · rw [if_pos c2] at pick ⊢
      refine pick (pup (pup (pup S 0 11 (if q.2.1 < v then v else q.2.1)) 0 12 (q.2.2.1 + 1)) 0 10 v) (pw_to ?_) (fun c a b => ?_) (fun i hi => ?_) ?_ ?_ ?_ (fun s a b => ?_)
      · unfold qp_X0_seatsFrom p_X1_copy
        refine pw_ite (fun _ => ?_) (fun x => absurd rfl x)
        refine pw_beq hsp (pw_zlt ?_)
        rw [h4]
        refine pw_beq hm ?_
        repeat' (first | with_reducible refine pw_some ?_ | with_reducible refine pw_iteT ?_ | with_reducible refine pw_iteF ?_ | with_reducible refine pw_biteT ?_ | with_reducible refine pw_biteF ?_ | with_reducible refine pw_exiteT ?_ | with_reducible refine pw_exiteF ?_ | with_reducible refine pw_inr ?_ | with_reducible refine pw_inl ?_ | ((with_reducible refine pw_ite (fun _ => ?_) (fun _ => ?_)) <;> first | (exfalso; omega) | skip) | ((with_reducible refine pw_in (fun _ _ => ?_) (fun _ => ?_)) <;> first | (exfalso; omega) | skip) | ((with_reducible refine pw_isIn (fun _ _ => ?_) (fun _ => ?_)) <;> first | (exfalso; omega) | skip) | ((with_reducible refine pw_kin ?_ (fun _ _ => ?_) (fun _ => ?_)) ; (omega) <;> first | (exfalso; omega) | skip) | ((with_reducible refine pw_ckin ?_ (fun _ _ => ?_) (fun _ => ?_)); (omega) <;> first | (exfalso; omega) | skip) | ((with_reducible refine pw_many ?_); try simp (disch := omega) only [h3, h5, pup_x, pup_k, pup_c, pup_r]) | ((with_reducible refine pw_has0 ?_)) | ((with_reducible refine pw_has2 ?_)) | ((with_reducible refine pw_strapped ?_); try simp (disch := omega) only [h3, h5, pup_x, pup_k, pup_c, pup_r]) | ((with_reducible refine pw_ald ?_ ?_ ?_); omega; omega; try simp (disch := omega) only [h3, h5, pup_x, pup_k, pup_c, pup_r]) | ((with_reducible refine pw_ast ?_ ?_ ?_); omega; omega) | ((with_reducible refine pw_idx ?_ ?_ ?_); omega; omega) | ((with_reducible refine pw_cp ?_ ?_ ?_ ?_ ?_ ?_); omega; omega; omega; omega; omega) | ((with_reducible refine pw_p32 ?_ ?_ ?_); omega; omega) | ((with_reducible refine pw_p64 ?_ ?_ ?_); omega; omega) | ((with_reducible refine pw_zlt ?_); try simp (disch := omega) only [h3, h5, pup_x, pup_k, pup_c, pup_r]) | ((with_reducible refine pw_bo ?_ ?_); omega) | ((with_reducible refine pw_mod ?_ ?_ ?_); omega; omega) | ((with_reducible refine pw_div ?_ ?_ ?_); omega; omega) | ((with_reducible refine pw_bite (fun _ => ?_) (fun _ => ?_)) <;> first | (exfalso; omega) | skip) | ((with_reducible refine pw_bsome ?_)) | ((with_reducible refine pw_bzlt ?_)) | ((with_reducible refine pw_bp32 ?_ ?_ ?_); omega; omega) | ((with_reducible refine pw_bass ?_)) | ((with_reducible refine pw_bex ?_)) | ((with_reducible refine pw_exr ?_)) | ((with_reducible refine pw_exl ?_)) | ((with_reducible refine pw_exite (fun _ => ?_) (fun _ => ?_)) <;> first | (exfalso; omega) | skip) | ((with_reducible refine pw_exz ?_)) | ((with_reducible refine pw_exp ?_ ?_ ?_); omega; omega) | ((with_reducible refine pw_exb ?_)))
        rfl
      · rw [pup_r a, pup_r a, pup_r a]
      · rw [pup_k (by omega), pup_k (by omega), pup_k (by omega)]
      · rw [pup_e rfl]; exact c2
      · rw [pup_k (by omega), pup_k (by omega), pup_e rfl]
      · rw [pup_k (by omega), pup_e rfl]
      · rw [pup_c (by omega), pup_c (by omega), pup_c (by omega)]; exact h6 s a b
    · rw [if_neg c2] at pick ⊢
      refine pick (pup S 0 11 (if q.2.1 < v then v else q.2.1)) (pw_to ?_) (fun c a b => ?_) (fun i hi => ?_) ?_ ?_ ?_ (fun s a b => ?_)
      · unfold qp_X0_seatsFrom p_X1_copy
        refine pw_ite (fun _ => ?_) (fun x => absurd rfl x)
        refine pw_beq hsp (pw_zlt ?_)
        rw [h4]
        refine pw_beq hm ?_
        repeat' (first | with_reducible refine pw_some ?_ | with_reducible refine pw_iteT ?_ | with_reducible refine pw_iteF ?_ | with_reducible refine pw_biteT ?_ | with_reducible refine pw_biteF ?_ | with_reducible refine pw_exiteT ?_ | with_reducible refine pw_exiteF ?_ | with_reducible refine pw_inr ?_ | with_reducible refine pw_inl ?_ | ((with_reducible refine pw_ite (fun _ => ?_) (fun _ => ?_)) <;> first | (exfalso; omega) | skip) | ((with_reducible refine pw_in (fun _ _ => ?_) (fun _ => ?_)) <;> first | (exfalso; omega) | skip) | ((with_reducible refine pw_isIn (fun _ _ => ?_) (fun _ => ?_)) <;> first | (exfalso; omega) | skip) | ((with_reducible refine pw_kin ?_ (fun _ _ => ?_) (fun _ => ?_)) ; (omega) <;> first | (exfalso; omega) | skip) | ((with_reducible refine pw_ckin ?_ (fun _ _ => ?_) (fun _ => ?_)); (omega) <;> first | (exfalso; omega) | skip) | ((with_reducible refine pw_many ?_); try simp (disch := omega) only [h3, h5, pup_x, pup_k, pup_c, pup_r]) | ((with_reducible refine pw_has0 ?_)) | ((with_reducible refine pw_has2 ?_)) | ((with_reducible refine pw_strapped ?_); try simp (disch := omega) only [h3, h5, pup_x, pup_k, pup_c, pup_r]) | ((with_reducible refine pw_ald ?_ ?_ ?_); omega; omega; try simp (disch := omega) only [h3, h5, pup_x, pup_k, pup_c, pup_r]) | ((with_reducible refine pw_ast ?_ ?_ ?_); omega; omega) | ((with_reducible refine pw_idx ?_ ?_ ?_); omega; omega) | ((with_reducible refine pw_cp ?_ ?_ ?_ ?_ ?_ ?_); omega; omega; omega; omega; omega) | ((with_reducible refine pw_p32 ?_ ?_ ?_); omega; omega) | ((with_reducible refine pw_p64 ?_ ?_ ?_); omega; omega) | ((with_reducible refine pw_zlt ?_); try simp (disch := omega) only [h3, h5, pup_x, pup_k, pup_c, pup_r]) | ((with_reducible refine pw_bo ?_ ?_); omega) | ((with_reducible refine pw_mod ?_ ?_ ?_); omega; omega) | ((with_reducible refine pw_div ?_ ?_ ?_); omega; omega) | ((with_reducible refine pw_bite (fun _ => ?_) (fun _ => ?_)) <;> first | (exfalso; omega) | skip) | ((with_reducible refine pw_bsome ?_)) | ((with_reducible refine pw_bzlt ?_)) | ((with_reducible refine pw_bp32 ?_ ?_ ?_); omega; omega) | ((with_reducible refine pw_bass ?_)) | ((with_reducible refine pw_bex ?_)) | ((with_reducible refine pw_exr ?_)) | ((with_reducible refine pw_exl ?_)) | ((with_reducible refine pw_exite (fun _ => ?_) (fun _ => ?_)) <;> first | (exfalso; omega) | skip) | ((with_reducible refine pw_exz ?_)) | ((with_reducible refine pw_exp ?_ ?_ ?_); omega; omega) | ((with_reducible refine pw_exb ?_)))
        rfl
      · rw [pup_r a]
      · rw [pup_k (by omega)]
      · rw [pup_k (by omega)]; exact h3
      · rw [pup_e rfl]
      · rw [pup_k (by omega)]; exact h5
      · rw [pup_c (by omega)]; exact h6 s a b
theorem sG_a {p r : List Int} {s : Int} (h0 : 0 ≤ s) (h : s < (p.length : Int)) : sG (p ++ r) s = sG p s := by
  unfold sG
  rw [List.getD_eq_getElem?_getD, List.getD_eq_getElem?_getD, List.getElem?_append_left (by omega)]
theorem flat_le {α : Type} (f : Nat → List α) {k n : Nat} (h : k ≤ n) : ((List.range k).flatMap f).length ≤ ((List.range n).flatMap f).length := by
  obtain ⟨j, rfl⟩ : ∃ j, n = k + j := ⟨n - k, by omega⟩
  rw [List.range_add, List.flatMap_append, List.length_append]
  omega
set_option maxHeartbeats 1000000 in
theorem k_sf {sp : List Int → Int} (n6 : n ≤ 6) (en : S0 2 0 = (n : Int)) (hsp : ∀ r, sOk n r → ∀ S : zP, (∀ c, 2 ≤ c → c ≤ 15 → S c = S0 c) → (∀ s, 0 ≤ s → s < (n : Int) → S 146 s = sG r s) → p_X0_spiteAround S 146 6 0 = some (sp r)) :
    ∀ (d D : Nat) (mask : Int) (pre : List Int) (S : zP) (q : sSt), sWf n d mask = true → pre.length + d = n → d < D → sRC n S0 S q → (∀ s, 0 ≤ s → s < (pre.length : Int) → S 146 s = sG pre s) → (∀ r, r ∈ sLv n d mask → sOk n (pre ++ r)) → 0 ≤ q.2.2.1 → q.2.2.1 + ((sLv n d mask).length : Int) ≤ 1000000 →
      ∃ S', rp_seats D S (pre.length : Int) mask = some S' ∧ sRC n S0 S' ((sLv n d mask).foldl (fun q r => sStep sp q (pre ++ r)) q) ∧ ∀ s, 0 ≤ s → s < (pre.length : Int) → S' 146 s = S 146 s
  | _, 0, _, _, _, _, _, _, h, _, _, _, _, _ => absurd h (Nat.not_lt_zero _)
  | 0, D + 1, mask, pre, S, q, hw, hl, _, hS, hp, hok, g0, g1 => by
    have hm : mask = 0 := of_decide_eq_true hw
    subst hm
    have ok : sOk n (pre ++ []) := hok [] (by unfold sLv; exact List.mem_singleton.mpr rfl)
    rw [List.append_nil] at ok
    have hp' : ∀ s, 0 ≤ s → s < (n : Int) → S 146 s = sG pre s := fun s a b => hp s a (by omega)
    have hl1 : ((sLv n 0 0).length : Int) = 1 := rfl
    obtain ⟨S', e, h1, h2⟩ := k_leaf (rec := rp_seats D) (a1 := (pre.length : Int)) (hsp pre ok S (fun c a b => hS.1 c (by omega) (by omega) (by omega)) hp') hS n6 hp' g0 (by omega)
    refine ⟨S', e, ?_, fun s _ _ => by rw [h2]⟩
    show sRC n S0 S' (sStep sp q (pre ++ []))
    rw [List.append_nil]; exact h1
  | d + 1, D + 1, mask, pre, S, q, hw, hl, hd, hS, hp, hok, g0, g1 => by
    have hw' : mask ≠ 0 ∧ ∀ k, k < n → pHas mask (k : Int) = 0 ∨ sWf n d (pand mask (pxor (pshl 1 (k : Int)) (-1))) = true := by
      unfold sWf at hw
      simp only [Bool.and_eq_true, decide_eq_true_eq, List.all_eq_true, Bool.or_eq_true, List.mem_range] at hw
      exact hw
    obtain ⟨F, eF⟩ : ∃ F : Nat → List (List Int), F = fun (k : Nat) => if pHas mask (k : Int) = 0 then [] else (sLv n d (pand mask (pxor (pshl 1 (k : Int)) (-1)))).map fun r => (k : Int) :: r := ⟨_, rfl⟩
    have eL : sLv n (d + 1) mask = (List.range n).flatMap F := by rw [eF]; rfl
    rw [eL] at hok g1 ⊢
    have hmem : ∀ k, k < n → ∀ r, r ∈ F k → sOk n (pre ++ r) := fun k hk r hr => hok r (List.mem_flatMap.mpr ⟨k, List.mem_range.mpr hk, hr⟩)
    have eN : ∀ X : zP, (∀ c, c ≠ 0 → c ≠ 146 → c ≠ 147 → X c = S0 c) → X 2 0 = (n : Int) := fun X hX => by rw [hX 2 (by omega) (by omega) (by omega)]; exact en
    have hloop : pw (zLoop (pb_X0_seatsFrom_84 (rp_seats D) (pre.length : Int) mask) zFuel (0, S)) (fun X => sRC n S0 X (((List.range n).flatMap F).foldl (fun q r => sStep sp q (pre ++ r)) q) ∧ ∀ s, 0 ≤ s → s < (pre.length : Int) → X 146 s = S 146 s) := by
      refine pw_lp (fun s => (0 ≤ s.1 ∧ s.1 ≤ (n : Int)) ∧ sRC n S0 s.2 (((List.range s.1.toNat).flatMap F).foldl (fun q r => sStep sp q (pre ++ r)) q) ∧ ∀ i, 0 ≤ i → i < (pre.length : Int) → s.2 146 i = S 146 i) (fun s => ((n : Int) - s.1).toNat) ?_ ⟨by first | (dsimp only; omega) | omega, hS, fun _ _ _ => rfl⟩ (by first | (dsimp only; omega) | omega)
      rintro ⟨k, X⟩ ⟨⟨k0, k1⟩, hX, hX2⟩
      dsimp only at k0 k1 hX hX2
      unfold pb_X0_seatsFrom_84
      dsimp only
      refine pw_many ?_
      rw [eN X hX.1]
      by_cases hk : k = (n : Int)
      · refine pw_ite (fun _ => pw_inl ?_) (fun x => absurd x (by omega))
        rw [hk, Int.toNat_natCast] at hX
        exact ⟨hX, hX2⟩
      · refine pw_ite (fun x => absurd x (by omega)) (fun _ => pw_has0 ?_)
        obtain ⟨K, eK⟩ : ∃ K : Nat, k = (K : Int) := ⟨k.toNat, by omega⟩
        subst eK
        have hKn : K < n := by omega
        rw [Int.toNat_natCast] at hX
        have er : ∀ z : sSt, ((List.range ((K : Int) + 1).toNat).flatMap F).foldl (fun q r => sStep sp q (pre ++ r)) z = (F K).foldl (fun q r => sStep sp q (pre ++ r)) (((List.range K).flatMap F).foldl (fun q r => sStep sp q (pre ++ r)) z) := fun z => by
          rw [show ((K : Int) + 1).toNat = K + 1 by omega, List.range_succ, List.flatMap_append, List.foldl_append]
          have : [K].flatMap F = F K := by simp
          rw [this]
        refine pw_ite (fun hz => ?_) (fun hz => ?_)
        · refine pw_p32 (by omega) (by omega) (pw_inr ⟨⟨by first | (dsimp only; omega) | omega, ?_, hX2⟩, by first | (dsimp only; omega) | omega⟩)
          dsimp only
          rw [er, show F K = [] by rw [eF]; exact if_pos hz]
          exact hX
        · have eFK : F K = (sLv n d (pand mask (pxor (pshl 1 (K : Int)) (-1)))).map fun r => (K : Int) :: r := by rw [eF]; exact if_neg hz
          obtain ⟨q', eq'⟩ : ∃ q', q' = ((List.range K).flatMap F).foldl (fun q r => sStep sp q (pre ++ r)) q := ⟨_, rfl⟩
          rw [← eq'] at hX
          have hg := sFold_g (fun q r => sStep sp q (pre ++ r)) (fun q r h => sStep_g sp _ h) ((List.range K).flatMap F) q g0
          rw [← eq'] at hg
          have hlen : ((List.range K).flatMap F).length + (F K).length ≤ ((List.range n).flatMap F).length := by
            have := flat_le F (show K + 1 ≤ n by omega)
            rw [List.range_succ, List.flatMap_append, List.length_append] at this
            have e2 : [K].flatMap F = F K := by simp
            rw [e2] at this; exact this
          have hFl : (F K).length = (sLv n d (pand mask (pxor (pshl 1 (K : Int)) (-1)))).length := by rw [eFK, List.length_map]
          refine pw_ast (by omega) (by omega) (pw_p32 (by omega) (by omega) (pw_zlt (pw_zlt (pw_zlt ?_))))
          obtain ⟨Y, y1, y2, y3⟩ := k_sf n6 en hsp d D (pand mask (pxor (pshl 1 (K : Int)) (-1))) (pre ++ [(K : Int)]) (pup X 146 (pre.length : Int) (K : Int)) q' ((hw'.2 K hKn).resolve_left hz) (by rw [List.length_append, List.length_singleton]; omega) (by omega)
            ⟨fun c a b e => (pup_r b).trans (hX.1 c a b e), fun i hi => (pup_c (by omega)).trans (hX.2.1 i hi), (pup_c (by omega)).trans hX.2.2.1, (pup_c (by omega)).trans hX.2.2.2.1, (pup_c (by omega)).trans hX.2.2.2.2.1, fun s a b => (pup_c (by omega)).trans (hX.2.2.2.2.2 s a b)⟩
            (fun s a b => by
              rw [List.length_append, List.length_singleton] at b
              by_cases hs : s = (pre.length : Int)
              · rw [hs, pup_e rfl]
                unfold sG
                rw [Int.toNat_natCast, List.getD_eq_getElem?_getD, List.getElem?_append_right (Nat.le_refl _), Nat.sub_self]; rfl
              · rw [pup_k hs, hX2 s a (by omega), hp s a (by omega), sG_a a (by omega)])
            (fun r hr => by
              rw [List.append_assoc]
              refine hmem K hKn _ ?_
              rw [eFK]
              exact List.mem_map.mpr ⟨r, hr, rfl⟩)
            hg.1 (by omega)
          rw [List.length_append, List.length_singleton] at y1 y3
          rw [show ((pre.length + 1 : Nat) : Int) = (pre.length : Int) + 1 by omega] at y1 y3
          refine pw_beq y1 (pw_p32 (by omega) (by omega) (pw_inr ⟨⟨by first | (dsimp only; omega) | omega, ?_, fun i a b => ?_⟩, by first | (dsimp only; omega) | omega⟩))
          · dsimp only
            rw [er, ← eq', eFK, List.foldl_map]
            have e3 : (fun (q : sSt) r => sStep sp q (pre ++ [(K : Int)] ++ r)) = fun q r => sStep sp q (pre ++ (K : Int) :: r) := by
              funext q r
              rw [List.append_assoc]; rfl
            rw [e3] at y2
            exact y2
          · dsimp only
            rw [y3 i a (by omega), pup_k (by omega)]; exact hX2 i a b
    obtain ⟨X, x1, x2, x3⟩ := hloop
    refine ⟨X, ?_, x2, x3⟩
    show qp_X0_seatsFrom (rp_seats D) S (pre.length : Int) mask = some X
    unfold qp_X0_seatsFrom
    rw [if_neg hw'.1, x1]; rfl
end
