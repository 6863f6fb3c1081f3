/-! PURE, flights -/
set_option maxRecDepth 100000
def pOut (c w : Int) : Bool := decide ((w = 0 ∧ c < 6) ∨ (w = 1 ∧ c % 6 = 5) ∨ (w = 2 ∧ 30 ≤ c) ∨ (w = 3 ∧ c % 6 = 0))
def pTo (c w : Int) : Int := if w = 0 then c - 6 else if w = 1 then c + 1 else if w = 2 then c + 6 else c - 1
def pTn (h w : Int) : Int := if h = 0 then w else if h = 1 then (if w = 0 then 1 else if w = 1 then 0 else if w = 2 then 3 else 2) else 3 - w
theorem fl_fin : ∀ (c : Fin 36) (w : Fin 4), p_X0_leavesBy (c.val : Int) (w.val : Int) = some (if pOut c.val w.val then 1 else 0) ∧ p_X2_nextBy c.val w.val = some (if pOut c.val w.val then -1 else pTo c.val w.val) ∧ p_X2_isInwards c.val w.val = p_X0_leavesBy c.val (pxor w.val 2) ∧ (¬ pOut c.val w.val → p_X0_nextCell c.val w.val = some (pTo c.val w.val) ∧ 0 ≤ pTo c.val w.val ∧ pTo c.val w.val ≤ 35) ∧ (p_X2_isInwards c.val w.val = some 0 ∨ p_X2_isInwards c.val w.val = some 1) := by decide +kernel
theorem fl_all {c w : Int} (c0 : 0 ≤ c) (c1 : c ≤ 35) (w0 : 0 ≤ w) (w1 : w ≤ 3) : p_X0_leavesBy c w = some (if pOut c w then 1 else 0) ∧ p_X2_nextBy c w = some (if pOut c w then -1 else pTo c w) ∧ p_X2_isInwards c w = p_X0_leavesBy c (pxor w 2) ∧ (¬ pOut c w → p_X0_nextCell c w = some (pTo c w) ∧ 0 ≤ pTo c w ∧ pTo c w ≤ 35) ∧ (p_X2_isInwards c w = some 0 ∨ p_X2_isInwards c w = some 1) := by
  have := fl_fin ⟨c.toNat, by omega⟩ ⟨w.toNat, by omega⟩
  rw [show (((⟨c.toNat, by omega⟩ : Fin 36).val : Nat) : Int) = c from Int.toNat_of_nonneg c0, show (((⟨w.toNat, by omega⟩ : Fin 4).val : Nat) : Int) = w from Int.toNat_of_nonneg w0] at this
  exact this
theorem tn_fin : ∀ (h : Fin 3) (w : Fin 4), p_X2_turnedBy (h.val : Int) (w.val : Int) = some (pTn h.val w.val) ∧ (0 ≤ pTn h.val w.val ∧ pTn h.val w.val ≤ 3) ∧ pxor w.val 1 = pTn 1 w.val := by decide +kernel
theorem tn_all {h w : Int} (c0 : 0 ≤ h) (c1 : h < 3) (w0 : 0 ≤ w) (w1 : w ≤ 3) : p_X2_turnedBy h w = some (pTn h w) ∧ (0 ≤ pTn h w ∧ pTn h w ≤ 3) ∧ pxor w 1 = pTn 1 w := by
  have := tn_fin ⟨h.toNat, by omega⟩ ⟨w.toNat, by omega⟩
  rw [show (((⟨h.toNat, by omega⟩ : Fin 3).val : Nat) : Int) = h from Int.toNat_of_nonneg c0, show (((⟨w.toNat, by omega⟩ : Fin 4).val : Nat) : Int) = w from Int.toNat_of_nonneg w0] at this
  exact this
/-! how many are marked -/
def pCnt (f : Int → Int) : Nat → Int
  | 0 => 0
  | n + 1 => pCnt f n + if f (n : Int) = 0 then 0 else 1
theorem pCnt_le (f : Int → Int) : ∀ n : Nat, 0 ≤ pCnt f n ∧ pCnt f n ≤ (n : Int)
  | 0 => ⟨Int.le_refl _, Int.le_refl _⟩
  | n + 1 => by
    have := pCnt_le f n
    unfold pCnt
    split <;> omega
theorem pCnt_lt {f : Int → Int} {i : Int} (i0 : 0 ≤ i) (h : f i = 0) : ∀ n : Nat, i < (n : Int) → pCnt f n < (n : Int)
  | 0, hn => by omega
  | n + 1, hn => by
    unfold pCnt
    by_cases e : i = (n : Int)
    · have := pCnt_le f n
      rw [if_pos (by rw [← e]; exact h)]; omega
    · have := pCnt_lt i0 h n (by omega)
      split <;> omega
theorem pCnt_e {f g : Int → Int} : ∀ n : Nat, (∀ i, 0 ≤ i → i < (n : Int) → f i = g i) → pCnt f n = pCnt g n
  | 0, _ => rfl
  | n + 1, h => by
    unfold pCnt
    rw [pCnt_e n (fun i a b => h i a (by omega)), h n (by omega) (by omega)]
theorem pCnt_up {f g : Int → Int} {i : Int} (i0 : 0 ≤ i) (h : f i = 0) (k : g i ≠ 0) (e : ∀ j, j ≠ i → g j = f j) : ∀ n : Nat, i < (n : Int) → pCnt g n = pCnt f n + 1
  | 0, hn => by omega
  | n + 1, hn => by
    unfold pCnt
    by_cases hi : i = (n : Int)
    · rw [pCnt_e n (fun j a b => e j (by omega)), ← hi, if_neg k, if_pos h]; omega
    · rw [pCnt_up i0 h k e n (by omega), e n (by omega)]; omega
theorem pCnt_0 {f : Int → Int} : ∀ n : Nat, (∀ i, 0 ≤ i → i < (n : Int) → f i = 0) → pCnt f n = 0
  | 0, _ => rfl
  | n + 1, h => by
    unfold pCnt
    rw [pCnt_0 n (fun i a b => h i a (by omega)), if_pos (h n (by omega) (by omega))]; rfl
theorem pw2_loopy {ρ σ ρ' τ : Type} {b1 : σ → Option (ρ ⊕ σ)} {b2 : τ → Option (ρ' ⊕ τ)} {Q : ρ → ρ' → Prop} (I : σ → τ → Prop) (μ : σ → Nat) (h : ∀ s t, I s t → (∃ y, b2 t = some (.inl y) ∧ ∀ n, μ s < n → pw (zLoop b1 n s) (fun x => Q x y)) ∨ pw (b1 s) (fun x => pw (b2 t) (fun y => pS2 Q (fun s' t' => I s' t' ∧ μ s' < μ s) x y))) : ∀ (n m : Nat) (s : σ) (t : τ), I s t → μ s < n → μ s < m → pw (zLoop b1 n s) (fun r => pw (zLoop b2 m t) (fun r' => Q r r'))
  | 0, _, _, _, _, hm, _ => absurd hm (Nat.not_lt_zero _)
  | _ + 1, 0, _, _, _, _, hm => absurd hm (Nat.not_lt_zero _)
  | n + 1, m + 1, s, t, hi, hm, hm' => by
    rcases h s t hi with ⟨y, ey, hy⟩ | ⟨x, ex, y, ey, a⟩
    · obtain ⟨x, ex, q⟩ := hy _ hm
      refine ⟨x, ex, y, ?_, q⟩
      rw [zLoop_s, ey]; rfl
    · rw [zLoop_s, zLoop_s]
      unfold zEx
      rw [ex, ey]
      cases x with
      | inl x => cases y with
        | inl y => exact ⟨x, rfl, y, rfl, a⟩
        | inr y => exact a.elim
      | inr x => cases y with
        | inl y => exact a.elim
        | inr y => exact pw2_loopy I μ h n m x y a.1 (by have := a.2; omega) (by have := a.2; omega)
section
variable {W : pW} {S T : zP}
/-! a step of the component's flight -/
set_option maxHeartbeats 1000000 in
theorem k_fl1 {c w n : Int} (ec : S 0 14 = c) (ew : S 0 16 = w) (en : S 0 13 = n) (c0 : 0 ≤ c) (c1 : c ≤ 35) (w0 : 0 ≤ w) (w1 : w ≤ 3) (n0 : 0 ≤ n) (n1 : n ≤ 1000) (t0 : 0 ≤ S 0 15) (t1 : S 0 15 ≤ 1000) (hh : ∀ i, 0 ≤ i → i < 36 → 0 ≤ S 5 i ∧ S 5 i ≤ 3) :
    (pOut c w → pb_X0_flies_20 S = some (.inl (.inr S))) ∧
    (¬ pOut c w → S 5 (pTo c w) = 3 → pb_X0_flies_20 S = some (.inl (.inl (1, pup (pup S 0 14 (pTo c w)) 0 13 (n + 1))))) ∧
    (¬ pOut c w → S 5 (pTo c w) ≠ 3 → 144 ≤ n → pb_X0_flies_20 S = some (.inl (.inl (0, pup (pup S 0 14 (pTo c w)) 0 13 (n + 1))))) ∧
    (¬ pOut c w → S 5 (pTo c w) ≠ 3 → n < 144 → pb_X0_flies_20 S = some (.inr (pup (pup (pup (pup S 0 14 (pTo c w)) 0 13 (n + 1)) 0 15 (S 0 15 + (if S 5 (pTo c w) ≤ 0 then 0 else 1))) 0 16 (pTn (S 5 (pTo c w)) w)))) := by
  obtain ⟨f1, -, -, f4, -⟩ := fl_all c0 c1 w0 w1
  have go : ¬ pOut c w → ∀ R : Option (((Int × zP) ⊕ zP) ⊕ zP), ((zlt (pup S 0 14 (pTo c w)) fun S15 => zlt (S15 0 13) fun v16 => p32 (v16 + 1) fun x1 => zlt (pup S15 0 13 x1) fun S17 => zlt (S17 0 14) fun v20 => (pald S17 5 36 v20).bind fun v21 => if v21 = 3 then (some (.inl (.inl (1, S17)))) else (zlt (S17 0 13) fun v22 => if v22 ≤ 144 then (zlt (S17 0 15) fun v23 => ((if v21 ≤ 0 then (some (0)) else (some (1)) : Option Int)).bind fun v25 => p32 (v23 + v25) fun x2 => zlt (pup S17 0 15 x2) fun S26 => if v21 = 1 then (zlt (S26 0 16) fun v31 => zlt (pxor v31 1) fun x3 => zlt (pup S26 0 16 x3) fun S32 => some (.inr S32)) else (if v21 = 2 then (zlt (S26 0 16) fun v29 => p32 (3 - v29) fun x4 => zlt (pup S26 0 16 x4) fun S30 => some (.inr S30)) else (zlt (S26 0 16) fun v27 => zlt (pup S26 0 16 v27) fun S28 => some (.inr S28)))) else (some (.inl (.inl (0, S17)))))) = R) → pb_X0_flies_20 S = R := by
    intro ho R e
    have h1 : pb_X0_flies_20 S = (p_X0_leavesBy (S 0 14) (S 0 16)).bind fun v11 => if v11 = 0 then ((p_X0_nextCell (S 0 14) (S 0 16)).bind fun v14 => zlt (pup S 0 14 v14) fun S15 => zlt (S15 0 13) fun v16 => p32 (v16 + 1) fun x1 => zlt (pup S15 0 13 x1) fun S17 => zlt (S17 0 14) fun v20 => (pald S17 5 36 v20).bind fun v21 => if v21 = 3 then (some (.inl (.inl (1, S17)))) else (zlt (S17 0 13) fun v22 => if v22 ≤ 144 then (zlt (S17 0 15) fun v23 => ((if v21 ≤ 0 then (some (0)) else (some (1)) : Option Int)).bind fun v25 => p32 (v23 + v25) fun x2 => zlt (pup S17 0 15 x2) fun S26 => if v21 = 1 then (zlt (S26 0 16) fun v31 => zlt (pxor v31 1) fun x3 => zlt (pup S26 0 16 x3) fun S32 => some (.inr S32)) else (if v21 = 2 then (zlt (S26 0 16) fun v29 => p32 (3 - v29) fun x4 => zlt (pup S26 0 16 x4) fun S30 => some (.inr S30)) else (zlt (S26 0 16) fun v27 => zlt (pup S26 0 16 v27) fun S28 => some (.inr S28)))) else (some (.inl (.inl (0, S17)))))) else (some (.inl (.inr S))) := rfl
    rw [h1, ec, ew, f1, if_neg ho, (f4 ho).1]
    exact e
  have q0 : ¬ pOut c w → 0 ≤ pTo c w ∧ pTo c w ≤ 35 := fun ho => (f4 ho).2
  refine ⟨fun ho => ?_, fun ho h3 => go ho _ (pw_to ?_), fun ho h3 hn => go ho _ (pw_to ?_), fun ho h3 hn => go ho _ (pw_to ?_)⟩
  · have h1 : pb_X0_flies_20 S = (p_X0_leavesBy (S 0 14) (S 0 16)).bind fun v11 => if v11 = 0 then _ else (some (.inl (.inr S))) := rfl
    rw [h1, ec, ew, f1, if_pos ho]; rfl
  · have := q0 ho
    repeat' (first | with_reducible refine pw_some ?_ | with_reducible refine pw_iteT ?_ | with_reducible refine pw_iteF ?_ | with_reducible refine pw_biteT ?_ | with_reducible refine pw_biteF ?_ | with_reducible refine pw_exiteT ?_ | with_reducible refine pw_exiteF ?_ | with_reducible refine pw_inr ?_ | with_reducible refine pw_inl ?_ | ((with_reducible refine pw_ite (fun _ => ?_) (fun _ => ?_)) <;> first | (exfalso; omega) | skip) | ((with_reducible refine pw_in (fun _ _ => ?_) (fun _ => ?_)) <;> first | (exfalso; omega) | skip) | ((with_reducible refine pw_isIn (fun _ _ => ?_) (fun _ => ?_)) <;> first | (exfalso; omega) | skip) | ((with_reducible refine pw_kin ?_ (fun _ _ => ?_) (fun _ => ?_)) ; (omega) <;> first | (exfalso; omega) | skip) | ((with_reducible refine pw_ckin ?_ (fun _ _ => ?_) (fun _ => ?_)); (omega) <;> first | (exfalso; omega) | skip) | ((with_reducible refine pw_many ?_); try simp (disch := omega) only [en, pup_x, pup_k, pup_c, pup_r]) | ((with_reducible refine pw_has0 ?_)) | ((with_reducible refine pw_has2 ?_)) | ((with_reducible refine pw_strapped ?_); try simp (disch := omega) only [en, pup_x, pup_k, pup_c, pup_r]) | ((with_reducible refine pw_ald ?_ ?_ ?_); omega; omega; try simp (disch := omega) only [en, pup_x, pup_k, pup_c, pup_r]) | ((with_reducible refine pw_ast ?_ ?_ ?_); omega; omega) | ((with_reducible refine pw_idx ?_ ?_ ?_); omega; omega) | ((with_reducible refine pw_cp ?_ ?_ ?_ ?_ ?_ ?_); omega; omega; omega; omega; omega) | ((with_reducible refine pw_p32 ?_ ?_ ?_); omega; omega) | ((with_reducible refine pw_p64 ?_ ?_ ?_); omega; omega) | ((with_reducible refine pw_zlt ?_); try simp (disch := omega) only [en, pup_x, pup_k, pup_c, pup_r]) | ((with_reducible refine pw_bo ?_ ?_); omega) | ((with_reducible refine pw_mod ?_ ?_ ?_); omega; omega) | ((with_reducible refine pw_div ?_ ?_ ?_); omega; omega) | ((with_reducible refine pw_bite (fun _ => ?_) (fun _ => ?_)) <;> first | (exfalso; omega) | skip) | ((with_reducible refine pw_bsome ?_)) | ((with_reducible refine pw_bzlt ?_)) | ((with_reducible refine pw_bp32 ?_ ?_ ?_); omega; omega) | ((with_reducible refine pw_bass ?_)) | ((with_reducible refine pw_bex ?_)) | ((with_reducible refine pw_exr ?_)) | ((with_reducible refine pw_exl ?_)) | ((with_reducible refine pw_exite (fun _ => ?_) (fun _ => ?_)) <;> first | (exfalso; omega) | skip) | ((with_reducible refine pw_exz ?_)) | ((with_reducible refine pw_exp ?_ ?_ ?_); omega; omega) | ((with_reducible refine pw_exb ?_)))
    rfl
  · have := q0 ho
    repeat' (first | with_reducible refine pw_some ?_ | with_reducible refine pw_iteT ?_ | with_reducible refine pw_iteF ?_ | with_reducible refine pw_biteT ?_ | with_reducible refine pw_biteF ?_ | with_reducible refine pw_exiteT ?_ | with_reducible refine pw_exiteF ?_ | with_reducible refine pw_inr ?_ | with_reducible refine pw_inl ?_ | ((with_reducible refine pw_ite (fun _ => ?_) (fun _ => ?_)) <;> first | (exfalso; omega) | skip) | ((with_reducible refine pw_in (fun _ _ => ?_) (fun _ => ?_)) <;> first | (exfalso; omega) | skip) | ((with_reducible refine pw_isIn (fun _ _ => ?_) (fun _ => ?_)) <;> first | (exfalso; omega) | skip) | ((with_reducible refine pw_kin ?_ (fun _ _ => ?_) (fun _ => ?_)) ; (omega) <;> first | (exfalso; omega) | skip) | ((with_reducible refine pw_ckin ?_ (fun _ _ => ?_) (fun _ => ?_)); (omega) <;> first | (exfalso; omega) | skip) | ((with_reducible refine pw_many ?_); try simp (disch := omega) only [en, pup_x, pup_k, pup_c, pup_r]) | ((with_reducible refine pw_has0 ?_)) | ((with_reducible refine pw_has2 ?_)) | ((with_reducible refine pw_strapped ?_); try simp (disch := omega) only [en, pup_x, pup_k, pup_c, pup_r]) | ((with_reducible refine pw_ald ?_ ?_ ?_); omega; omega; try simp (disch := omega) only [en, pup_x, pup_k, pup_c, pup_r]) | ((with_reducible refine pw_ast ?_ ?_ ?_); omega; omega) | ((with_reducible refine pw_idx ?_ ?_ ?_); omega; omega) | ((with_reducible refine pw_cp ?_ ?_ ?_ ?_ ?_ ?_); omega; omega; omega; omega; omega) | ((with_reducible refine pw_p32 ?_ ?_ ?_); omega; omega) | ((with_reducible refine pw_p64 ?_ ?_ ?_); omega; omega) | ((with_reducible refine pw_zlt ?_); try simp (disch := omega) only [en, pup_x, pup_k, pup_c, pup_r]) | ((with_reducible refine pw_bo ?_ ?_); omega) | ((with_reducible refine pw_mod ?_ ?_ ?_); omega; omega) | ((with_reducible refine pw_div ?_ ?_ ?_); omega; omega) | ((with_reducible refine pw_bite (fun _ => ?_) (fun _ => ?_)) <;> first | (exfalso; omega) | skip) | ((with_reducible refine pw_bsome ?_)) | ((with_reducible refine pw_bzlt ?_)) | ((with_reducible refine pw_bp32 ?_ ?_ ?_); omega; omega) | ((with_reducible refine pw_bass ?_)) | ((with_reducible refine pw_bex ?_)) | ((with_reducible refine pw_exr ?_)) | ((with_reducible refine pw_exl ?_)) | ((with_reducible refine pw_exite (fun _ => ?_) (fun _ => ?_)) <;> first | (exfalso; omega) | skip) | ((with_reducible refine pw_exz ?_)) | ((with_reducible refine pw_exp ?_ ?_ ?_); omega; omega) | ((with_reducible refine pw_exb ?_)))
    rfl
  · have h0 := q0 ho
    have h5 := hh _ h0.1 (by omega)
    have h6 := (tn_all h5.1 (by omega) w0 w1).2.2
    obtain ⟨h, eh⟩ : ∃ h, h = S 5 (pTo c w) := ⟨_, rfl⟩
    rw [← eh] at h3 h5 ⊢
    by_cases a1 : h = 1
    · repeat' (first | with_reducible refine pw_some ?_ | with_reducible refine pw_iteT ?_ | with_reducible refine pw_iteF ?_ | with_reducible refine pw_biteT ?_ | with_reducible refine pw_biteF ?_ | with_reducible refine pw_exiteT ?_ | with_reducible refine pw_exiteF ?_ | with_reducible refine pw_inr ?_ | with_reducible refine pw_inl ?_ | ((with_reducible refine pw_ite (fun _ => ?_) (fun _ => ?_)) <;> first | (exfalso; omega) | skip) | ((with_reducible refine pw_in (fun _ _ => ?_) (fun _ => ?_)) <;> first | (exfalso; omega) | skip) | ((with_reducible refine pw_isIn (fun _ _ => ?_) (fun _ => ?_)) <;> first | (exfalso; omega) | skip) | ((with_reducible refine pw_kin ?_ (fun _ _ => ?_) (fun _ => ?_)) ; (omega) <;> first | (exfalso; omega) | skip) | ((with_reducible refine pw_ckin ?_ (fun _ _ => ?_) (fun _ => ?_)); (omega) <;> first | (exfalso; omega) | skip) | ((with_reducible refine pw_many ?_); try simp (disch := omega) only [en, ew, ← eh, pup_x, pup_k, pup_c, pup_r]) | ((with_reducible refine pw_has0 ?_)) | ((with_reducible refine pw_has2 ?_)) | ((with_reducible refine pw_strapped ?_); try simp (disch := omega) only [en, ew, ← eh, pup_x, pup_k, pup_c, pup_r]) | ((with_reducible refine pw_ald ?_ ?_ ?_); omega; omega; try simp (disch := omega) only [en, ew, ← eh, pup_x, pup_k, pup_c, pup_r]) | ((with_reducible refine pw_ast ?_ ?_ ?_); omega; omega) | ((with_reducible refine pw_idx ?_ ?_ ?_); omega; omega) | ((with_reducible refine pw_cp ?_ ?_ ?_ ?_ ?_ ?_); omega; omega; omega; omega; omega) | ((with_reducible refine pw_p32 ?_ ?_ ?_); omega; omega) | ((with_reducible refine pw_p64 ?_ ?_ ?_); omega; omega) | ((with_reducible refine pw_zlt ?_); try simp (disch := omega) only [en, ew, ← eh, pup_x, pup_k, pup_c, pup_r]) | ((with_reducible refine pw_bo ?_ ?_); omega) | ((with_reducible refine pw_mod ?_ ?_ ?_); omega; omega) | ((with_reducible refine pw_div ?_ ?_ ?_); omega; omega) | ((with_reducible refine pw_bite (fun _ => ?_) (fun _ => ?_)) <;> first | (exfalso; omega) | skip) | ((with_reducible refine pw_bsome ?_)) | ((with_reducible refine pw_bzlt ?_)) | ((with_reducible refine pw_bp32 ?_ ?_ ?_); omega; omega) | ((with_reducible refine pw_bass ?_)) | ((with_reducible refine pw_bex ?_)) | ((with_reducible refine pw_exr ?_)) | ((with_reducible refine pw_exl ?_)) | ((with_reducible refine pw_exite (fun _ => ?_) (fun _ => ?_)) <;> first | (exfalso; omega) | skip) | ((with_reducible refine pw_exz ?_)) | ((with_reducible refine pw_exp ?_ ?_ ?_); omega; omega) | ((with_reducible refine pw_exb ?_)))
      rw [h6, a1]; rfl
    · by_cases a2 : h = 2
      · repeat' (first | with_reducible refine pw_some ?_ | with_reducible refine pw_iteT ?_ | with_reducible refine pw_iteF ?_ | with_reducible refine pw_biteT ?_ | with_reducible refine pw_biteF ?_ | with_reducible refine pw_exiteT ?_ | with_reducible refine pw_exiteF ?_ | with_reducible refine pw_inr ?_ | with_reducible refine pw_inl ?_ | ((with_reducible refine pw_ite (fun _ => ?_) (fun _ => ?_)) <;> first | (exfalso; omega) | skip) | ((with_reducible refine pw_in (fun _ _ => ?_) (fun _ => ?_)) <;> first | (exfalso; omega) | skip) | ((with_reducible refine pw_isIn (fun _ _ => ?_) (fun _ => ?_)) <;> first | (exfalso; omega) | skip) | ((with_reducible refine pw_kin ?_ (fun _ _ => ?_) (fun _ => ?_)) ; (omega) <;> first | (exfalso; omega) | skip) | ((with_reducible refine pw_ckin ?_ (fun _ _ => ?_) (fun _ => ?_)); (omega) <;> first | (exfalso; omega) | skip) | ((with_reducible refine pw_many ?_); try simp (disch := omega) only [en, ew, ← eh, pup_x, pup_k, pup_c, pup_r]) | ((with_reducible refine pw_has0 ?_)) | ((with_reducible refine pw_has2 ?_)) | ((with_reducible refine pw_strapped ?_); try simp (disch := omega) only [en, ew, ← eh, pup_x, pup_k, pup_c, pup_r]) | ((with_reducible refine pw_ald ?_ ?_ ?_); omega; omega; try simp (disch := omega) only [en, ew, ← eh, pup_x, pup_k, pup_c, pup_r]) | ((with_reducible refine pw_ast ?_ ?_ ?_); omega; omega) | ((with_reducible refine pw_idx ?_ ?_ ?_); omega; omega) | ((with_reducible refine pw_cp ?_ ?_ ?_ ?_ ?_ ?_); omega; omega; omega; omega; omega) | ((with_reducible refine pw_p32 ?_ ?_ ?_); omega; omega) | ((with_reducible refine pw_p64 ?_ ?_ ?_); omega; omega) | ((with_reducible refine pw_zlt ?_); try simp (disch := omega) only [en, ew, ← eh, pup_x, pup_k, pup_c, pup_r]) | ((with_reducible refine pw_bo ?_ ?_); omega) | ((with_reducible refine pw_mod ?_ ?_ ?_); omega; omega) | ((with_reducible refine pw_div ?_ ?_ ?_); omega; omega) | ((with_reducible refine pw_bite (fun _ => ?_) (fun _ => ?_)) <;> first | (exfalso; omega) | skip) | ((with_reducible refine pw_bsome ?_)) | ((with_reducible refine pw_bzlt ?_)) | ((with_reducible refine pw_bp32 ?_ ?_ ?_); omega; omega) | ((with_reducible refine pw_bass ?_)) | ((with_reducible refine pw_bex ?_)) | ((with_reducible refine pw_exr ?_)) | ((with_reducible refine pw_exl ?_)) | ((with_reducible refine pw_exite (fun _ => ?_) (fun _ => ?_)) <;> first | (exfalso; omega) | skip) | ((with_reducible refine pw_exz ?_)) | ((with_reducible refine pw_exp ?_ ?_ ?_); omega; omega) | ((with_reducible refine pw_exb ?_)))
        rw [a2]; rfl
      · have a0 : h = 0 := by omega
        repeat' (first | with_reducible refine pw_some ?_ | with_reducible refine pw_iteT ?_ | with_reducible refine pw_iteF ?_ | with_reducible refine pw_biteT ?_ | with_reducible refine pw_biteF ?_ | with_reducible refine pw_exiteT ?_ | with_reducible refine pw_exiteF ?_ | with_reducible refine pw_inr ?_ | with_reducible refine pw_inl ?_ | ((with_reducible refine pw_ite (fun _ => ?_) (fun _ => ?_)) <;> first | (exfalso; omega) | skip) | ((with_reducible refine pw_in (fun _ _ => ?_) (fun _ => ?_)) <;> first | (exfalso; omega) | skip) | ((with_reducible refine pw_isIn (fun _ _ => ?_) (fun _ => ?_)) <;> first | (exfalso; omega) | skip) | ((with_reducible refine pw_kin ?_ (fun _ _ => ?_) (fun _ => ?_)) ; (omega) <;> first | (exfalso; omega) | skip) | ((with_reducible refine pw_ckin ?_ (fun _ _ => ?_) (fun _ => ?_)); (omega) <;> first | (exfalso; omega) | skip) | ((with_reducible refine pw_many ?_); try simp (disch := omega) only [en, ew, ← eh, pup_x, pup_k, pup_c, pup_r]) | ((with_reducible refine pw_has0 ?_)) | ((with_reducible refine pw_has2 ?_)) | ((with_reducible refine pw_strapped ?_); try simp (disch := omega) only [en, ew, ← eh, pup_x, pup_k, pup_c, pup_r]) | ((with_reducible refine pw_ald ?_ ?_ ?_); omega; omega; try simp (disch := omega) only [en, ew, ← eh, pup_x, pup_k, pup_c, pup_r]) | ((with_reducible refine pw_ast ?_ ?_ ?_); omega; omega) | ((with_reducible refine pw_idx ?_ ?_ ?_); omega; omega) | ((with_reducible refine pw_cp ?_ ?_ ?_ ?_ ?_ ?_); omega; omega; omega; omega; omega) | ((with_reducible refine pw_p32 ?_ ?_ ?_); omega; omega) | ((with_reducible refine pw_p64 ?_ ?_ ?_); omega; omega) | ((with_reducible refine pw_zlt ?_); try simp (disch := omega) only [en, ew, ← eh, pup_x, pup_k, pup_c, pup_r]) | ((with_reducible refine pw_bo ?_ ?_); omega) | ((with_reducible refine pw_mod ?_ ?_ ?_); omega; omega) | ((with_reducible refine pw_div ?_ ?_ ?_); omega; omega) | ((with_reducible refine pw_bite (fun _ => ?_) (fun _ => ?_)) <;> first | (exfalso; omega) | skip) | ((with_reducible refine pw_bsome ?_)) | ((with_reducible refine pw_bzlt ?_)) | ((with_reducible refine pw_bp32 ?_ ?_ ?_); omega; omega) | ((with_reducible refine pw_bass ?_)) | ((with_reducible refine pw_bex ?_)) | ((with_reducible refine pw_exr ?_)) | ((with_reducible refine pw_exl ?_)) | ((with_reducible refine pw_exite (fun _ => ?_) (fun _ => ?_)) <;> first | (exfalso; omega) | skip) | ((with_reducible refine pw_exz ?_)) | ((with_reducible refine pw_exp ?_ ?_ ?_); omega; omega) | ((with_reducible refine pw_exb ?_)))
        rw [a0]; rfl
/-! a step of the model's flight -/
set_option maxHeartbeats 1000000 in
theorem k_fl2 {c w n : Int} (ec : T 0 33 = c) (ew : T 0 35 = w) (en : T 0 32 = n) (c0 : 0 ≤ c) (c1 : c ≤ 35) (w0 : 0 ≤ w) (w1 : w ≤ 3) (n0 : 0 ≤ n) (n1 : n ≤ 1000) (t0 : 0 ≤ T 0 34) (t1 : T 0 34 ≤ 1000) (hh : ∀ i, 0 ≤ i → i < 36 → 0 ≤ T 1 (71 + i) ∧ T 1 (71 + i) ≤ 3) :
    (pOut c w → pb_X2_isFlown_42 T = some (.inl (.inr T))) ∧
    (¬ pOut c w → T 12 (4 * pTo c w + w) ≠ 0 → pb_X2_isFlown_42 T = some (.inl (.inl (0, pup (pup T 0 33 (pTo c w)) 0 32 (n + 1))))) ∧
    (¬ pOut c w → T 12 (4 * pTo c w + w) = 0 → T 1 (71 + pTo c w) = 3 → pb_X2_isFlown_42 T = some (.inl (.inl (1, pup (pup (pup T 0 33 (pTo c w)) 0 32 (n + 1)) 12 (4 * pTo c w + w) 1)))) ∧
    (¬ pOut c w → T 12 (4 * pTo c w + w) = 0 → T 1 (71 + pTo c w) ≠ 3 → pb_X2_isFlown_42 T = some (.inr (pup (pup (pup (pup (pup T 0 33 (pTo c w)) 0 32 (n + 1)) 12 (4 * pTo c w + w) 1) 0 34 (T 0 34 + (if T 1 (71 + pTo c w) ≤ 0 then 0 else 1))) 0 35 (pTn (T 1 (71 + pTo c w)) w)))) := by
  obtain ⟨-, f1, -, f4, -⟩ := fl_all c0 c1 w0 w1
  have hnz : pnz 1 = 1 := by decide
  have out : pOut c w → pb_X2_isFlown_42 T = some (.inl (.inr T)) := by
    intro ho
    have h1 : pb_X2_isFlown_42 T = (p_X2_nextBy (T 0 33) (T 0 35)).bind fun v19 => if v19 = -1 then (some (.inl (.inr T))) else _ := rfl
    rw [h1, ec, ew, f1, if_pos ho]; rfl
  refine ⟨out, ?_⟩
  by_cases ho : pOut c w
  · exact ⟨fun x => absurd ho x, fun x => absurd ho x, fun x => absurd ho x⟩
  rw [if_neg ho] at f1
  have q0 := (f4 ho).2
  obtain ⟨d, ed⟩ : ∃ d, d = pTo c w := ⟨_, rfl⟩
  rw [← ed] at f1 q0 ⊢
  have h0 := hh d q0.1 (by omega)
  obtain ⟨h, eh⟩ : ∃ h, h = T 1 (71 + d) := ⟨_, rfl⟩
  obtain ⟨k, ek⟩ : ∃ k, k = T 12 (4 * d + w) := ⟨_, rfl⟩
  rw [← eh] at h0 ⊢
  rw [← ek]
  have ev : ∀ R, pw (pb_X2_isFlown_42 T) (fun z => z = R) → pb_X2_isFlown_42 T = R := fun R h => pw_to h
  refine ⟨fun _ a => ev _ ?_, fun _ a b => ev _ ?_, fun _ a b => ev _ ?_⟩
  all_goals
    unfold pb_X2_isFlown_42
    refine pw_zlt (pw_zlt ?_)
    rw [ec, ew]
    refine pw_beq f1 (pw_ite (fun x => absurd x (by omega)) (fun _ => pw_zlt (pw_zlt ?_)))
    refine pw_beq f1 ?_
  · repeat' (first | with_reducible refine pw_some ?_ | with_reducible refine pw_iteT ?_ | with_reducible refine pw_iteF ?_ | with_reducible refine pw_biteT ?_ | with_reducible refine pw_biteF ?_ | with_reducible refine pw_exiteT ?_ | with_reducible refine pw_exiteF ?_ | with_reducible refine pw_inr ?_ | with_reducible refine pw_inl ?_ | ((with_reducible refine pw_ite (fun _ => ?_) (fun _ => ?_)) <;> first | (exfalso; omega) | skip) | ((with_reducible refine pw_in (fun _ _ => ?_) (fun _ => ?_)) <;> first | (exfalso; omega) | skip) | ((with_reducible refine pw_isIn (fun _ _ => ?_) (fun _ => ?_)) <;> first | (exfalso; omega) | skip) | ((with_reducible refine pw_kin ?_ (fun _ _ => ?_) (fun _ => ?_)) ; (omega) <;> first | (exfalso; omega) | skip) | ((with_reducible refine pw_ckin ?_ (fun _ _ => ?_) (fun _ => ?_)); (omega) <;> first | (exfalso; omega) | skip) | ((with_reducible refine pw_many ?_); try simp (disch := omega) only [en, ew, ← ek, pup_x, pup_k, pup_c, pup_r]) | ((with_reducible refine pw_has0 ?_)) | ((with_reducible refine pw_has2 ?_)) | ((with_reducible refine pw_strapped ?_); try simp (disch := omega) only [en, ew, ← ek, pup_x, pup_k, pup_c, pup_r]) | ((with_reducible refine pw_ald ?_ ?_ ?_); omega; omega; try simp (disch := omega) only [en, ew, ← ek, pup_x, pup_k, pup_c, pup_r]) | ((with_reducible refine pw_ast ?_ ?_ ?_); omega; omega) | ((with_reducible refine pw_idx ?_ ?_ ?_); omega; omega) | ((with_reducible refine pw_cp ?_ ?_ ?_ ?_ ?_ ?_); omega; omega; omega; omega; omega) | ((with_reducible refine pw_p32 ?_ ?_ ?_); omega; omega) | ((with_reducible refine pw_p64 ?_ ?_ ?_); omega; omega) | ((with_reducible refine pw_zlt ?_); try simp (disch := omega) only [en, ew, ← ek, pup_x, pup_k, pup_c, pup_r]) | ((with_reducible refine pw_bo ?_ ?_); omega) | ((with_reducible refine pw_mod ?_ ?_ ?_); omega; omega) | ((with_reducible refine pw_div ?_ ?_ ?_); omega; omega) | ((with_reducible refine pw_bite (fun _ => ?_) (fun _ => ?_)) <;> first | (exfalso; omega) | skip) | ((with_reducible refine pw_bsome ?_)) | ((with_reducible refine pw_bzlt ?_)) | ((with_reducible refine pw_bp32 ?_ ?_ ?_); omega; omega) | ((with_reducible refine pw_bass ?_)) | ((with_reducible refine pw_bex ?_)) | ((with_reducible refine pw_exr ?_)) | ((with_reducible refine pw_exl ?_)) | ((with_reducible refine pw_exite (fun _ => ?_) (fun _ => ?_)) <;> first | (exfalso; omega) | skip) | ((with_reducible refine pw_exz ?_)) | ((with_reducible refine pw_exp ?_ ?_ ?_); omega; omega) | ((with_reducible refine pw_exb ?_)))
    rfl
  · repeat' (first | with_reducible refine pw_some ?_ | with_reducible refine pw_iteT ?_ | with_reducible refine pw_iteF ?_ | with_reducible refine pw_biteT ?_ | with_reducible refine pw_biteF ?_ | with_reducible refine pw_exiteT ?_ | with_reducible refine pw_exiteF ?_ | with_reducible refine pw_inr ?_ | with_reducible refine pw_inl ?_ | ((with_reducible refine pw_ite (fun _ => ?_) (fun _ => ?_)) <;> first | (exfalso; omega) | skip) | ((with_reducible refine pw_in (fun _ _ => ?_) (fun _ => ?_)) <;> first | (exfalso; omega) | skip) | ((with_reducible refine pw_isIn (fun _ _ => ?_) (fun _ => ?_)) <;> first | (exfalso; omega) | skip) | ((with_reducible refine pw_kin ?_ (fun _ _ => ?_) (fun _ => ?_)) ; (omega) <;> first | (exfalso; omega) | skip) | ((with_reducible refine pw_ckin ?_ (fun _ _ => ?_) (fun _ => ?_)); (omega) <;> first | (exfalso; omega) | skip) | ((with_reducible refine pw_many ?_); try simp (disch := omega) only [en, ew, ← ek, hnz, ← eh, pup_x, pup_k, pup_c, pup_r]) | ((with_reducible refine pw_has0 ?_)) | ((with_reducible refine pw_has2 ?_)) | ((with_reducible refine pw_strapped ?_); try simp (disch := omega) only [en, ew, ← ek, hnz, ← eh, pup_x, pup_k, pup_c, pup_r]) | ((with_reducible refine pw_ald ?_ ?_ ?_); omega; omega; try simp (disch := omega) only [en, ew, ← ek, hnz, ← eh, pup_x, pup_k, pup_c, pup_r]) | ((with_reducible refine pw_ast ?_ ?_ ?_); omega; omega) | ((with_reducible refine pw_idx ?_ ?_ ?_); omega; omega) | ((with_reducible refine pw_cp ?_ ?_ ?_ ?_ ?_ ?_); omega; omega; omega; omega; omega) | ((with_reducible refine pw_p32 ?_ ?_ ?_); omega; omega) | ((with_reducible refine pw_p64 ?_ ?_ ?_); omega; omega) | ((with_reducible refine pw_zlt ?_); try simp (disch := omega) only [en, ew, ← ek, hnz, ← eh, pup_x, pup_k, pup_c, pup_r]) | ((with_reducible refine pw_bo ?_ ?_); omega) | ((with_reducible refine pw_mod ?_ ?_ ?_); omega; omega) | ((with_reducible refine pw_div ?_ ?_ ?_); omega; omega) | ((with_reducible refine pw_bite (fun _ => ?_) (fun _ => ?_)) <;> first | (exfalso; omega) | skip) | ((with_reducible refine pw_bsome ?_)) | ((with_reducible refine pw_bzlt ?_)) | ((with_reducible refine pw_bp32 ?_ ?_ ?_); omega; omega) | ((with_reducible refine pw_bass ?_)) | ((with_reducible refine pw_bex ?_)) | ((with_reducible refine pw_exr ?_)) | ((with_reducible refine pw_exl ?_)) | ((with_reducible refine pw_exite (fun _ => ?_) (fun _ => ?_)) <;> first | (exfalso; omega) | skip) | ((with_reducible refine pw_exz ?_)) | ((with_reducible refine pw_exp ?_ ?_ ?_); omega; omega) | ((with_reducible refine pw_exb ?_)))
    rfl
  · have tn := (tn_all h0.1 (by omega) w0 w1).1
    by_cases a1 : h ≤ 0
    · repeat' (first | with_reducible refine pw_some ?_ | with_reducible refine pw_iteT ?_ | with_reducible refine pw_iteF ?_ | with_reducible refine pw_biteT ?_ | with_reducible refine pw_biteF ?_ | with_reducible refine pw_exiteT ?_ | with_reducible refine pw_exiteF ?_ | with_reducible refine pw_inr ?_ | with_reducible refine pw_inl ?_ | ((with_reducible refine pw_ite (fun _ => ?_) (fun _ => ?_)) <;> first | (exfalso; omega) | skip) | ((with_reducible refine pw_in (fun _ _ => ?_) (fun _ => ?_)) <;> first | (exfalso; omega) | skip) | ((with_reducible refine pw_isIn (fun _ _ => ?_) (fun _ => ?_)) <;> first | (exfalso; omega) | skip) | ((with_reducible refine pw_kin ?_ (fun _ _ => ?_) (fun _ => ?_)) ; (omega) <;> first | (exfalso; omega) | skip) | ((with_reducible refine pw_ckin ?_ (fun _ _ => ?_) (fun _ => ?_)); (omega) <;> first | (exfalso; omega) | skip) | ((with_reducible refine pw_many ?_); try simp (disch := omega) only [en, ew, ← ek, hnz, ← eh, pup_x, pup_k, pup_c, pup_r]) | ((with_reducible refine pw_has0 ?_)) | ((with_reducible refine pw_has2 ?_)) | ((with_reducible refine pw_strapped ?_); try simp (disch := omega) only [en, ew, ← ek, hnz, ← eh, pup_x, pup_k, pup_c, pup_r]) | ((with_reducible refine pw_ald ?_ ?_ ?_); omega; omega; try simp (disch := omega) only [en, ew, ← ek, hnz, ← eh, pup_x, pup_k, pup_c, pup_r]) | ((with_reducible refine pw_ast ?_ ?_ ?_); omega; omega) | ((with_reducible refine pw_idx ?_ ?_ ?_); omega; omega) | ((with_reducible refine pw_cp ?_ ?_ ?_ ?_ ?_ ?_); omega; omega; omega; omega; omega) | ((with_reducible refine pw_p32 ?_ ?_ ?_); omega; omega) | ((with_reducible refine pw_p64 ?_ ?_ ?_); omega; omega) | ((with_reducible refine pw_zlt ?_); try simp (disch := omega) only [en, ew, ← ek, hnz, ← eh, pup_x, pup_k, pup_c, pup_r]) | ((with_reducible refine pw_bo ?_ ?_); omega) | ((with_reducible refine pw_mod ?_ ?_ ?_); omega; omega) | ((with_reducible refine pw_div ?_ ?_ ?_); omega; omega) | ((with_reducible refine pw_bite (fun _ => ?_) (fun _ => ?_)) <;> first | (exfalso; omega) | skip) | ((with_reducible refine pw_bsome ?_)) | ((with_reducible refine pw_bzlt ?_)) | ((with_reducible refine pw_bp32 ?_ ?_ ?_); omega; omega) | ((with_reducible refine pw_bass ?_)) | ((with_reducible refine pw_bex ?_)) | ((with_reducible refine pw_exr ?_)) | ((with_reducible refine pw_exl ?_)) | ((with_reducible refine pw_exite (fun _ => ?_) (fun _ => ?_)) <;> first | (exfalso; omega) | skip) | ((with_reducible refine pw_exz ?_)) | ((with_reducible refine pw_exp ?_ ?_ ?_); omega; omega) | ((with_reducible refine pw_exb ?_)))
      refine pw_beq tn ?_
      repeat' (first | with_reducible refine pw_some ?_ | with_reducible refine pw_iteT ?_ | with_reducible refine pw_iteF ?_ | with_reducible refine pw_biteT ?_ | with_reducible refine pw_biteF ?_ | with_reducible refine pw_exiteT ?_ | with_reducible refine pw_exiteF ?_ | with_reducible refine pw_inr ?_ | with_reducible refine pw_inl ?_ | ((with_reducible refine pw_ite (fun _ => ?_) (fun _ => ?_)) <;> first | (exfalso; omega) | skip) | ((with_reducible refine pw_in (fun _ _ => ?_) (fun _ => ?_)) <;> first | (exfalso; omega) | skip) | ((with_reducible refine pw_isIn (fun _ _ => ?_) (fun _ => ?_)) <;> first | (exfalso; omega) | skip) | ((with_reducible refine pw_kin ?_ (fun _ _ => ?_) (fun _ => ?_)) ; (omega) <;> first | (exfalso; omega) | skip) | ((with_reducible refine pw_ckin ?_ (fun _ _ => ?_) (fun _ => ?_)); (omega) <;> first | (exfalso; omega) | skip) | ((with_reducible refine pw_many ?_); try simp (disch := omega) only [en, pup_x, pup_k, pup_c, pup_r]) | ((with_reducible refine pw_has0 ?_)) | ((with_reducible refine pw_has2 ?_)) | ((with_reducible refine pw_strapped ?_); try simp (disch := omega) only [en, pup_x, pup_k, pup_c, pup_r]) | ((with_reducible refine pw_ald ?_ ?_ ?_); omega; omega; try simp (disch := omega) only [en, pup_x, pup_k, pup_c, pup_r]) | ((with_reducible refine pw_ast ?_ ?_ ?_); omega; omega) | ((with_reducible refine pw_idx ?_ ?_ ?_); omega; omega) | ((with_reducible refine pw_cp ?_ ?_ ?_ ?_ ?_ ?_); omega; omega; omega; omega; omega) | ((with_reducible refine pw_p32 ?_ ?_ ?_); omega; omega) | ((with_reducible refine pw_p64 ?_ ?_ ?_); omega; omega) | ((with_reducible refine pw_zlt ?_); try simp (disch := omega) only [en, pup_x, pup_k, pup_c, pup_r]) | ((with_reducible refine pw_bo ?_ ?_); omega) | ((with_reducible refine pw_mod ?_ ?_ ?_); omega; omega) | ((with_reducible refine pw_div ?_ ?_ ?_); omega; omega) | ((with_reducible refine pw_bite (fun _ => ?_) (fun _ => ?_)) <;> first | (exfalso; omega) | skip) | ((with_reducible refine pw_bsome ?_)) | ((with_reducible refine pw_bzlt ?_)) | ((with_reducible refine pw_bp32 ?_ ?_ ?_); omega; omega) | ((with_reducible refine pw_bass ?_)) | ((with_reducible refine pw_bex ?_)) | ((with_reducible refine pw_exr ?_)) | ((with_reducible refine pw_exl ?_)) | ((with_reducible refine pw_exite (fun _ => ?_) (fun _ => ?_)) <;> first | (exfalso; omega) | skip) | ((with_reducible refine pw_exz ?_)) | ((with_reducible refine pw_exp ?_ ?_ ?_); omega; omega) | ((with_reducible refine pw_exb ?_)))
      rw [if_pos a1]
    · repeat' (first | with_reducible refine pw_some ?_ | with_reducible refine pw_iteT ?_ | with_reducible refine pw_iteF ?_ | with_reducible refine pw_biteT ?_ | with_reducible refine pw_biteF ?_ | with_reducible refine pw_exiteT ?_ | with_reducible refine pw_exiteF ?_ | with_reducible refine pw_inr ?_ | with_reducible refine pw_inl ?_ | ((with_reducible refine pw_ite (fun _ => ?_) (fun _ => ?_)) <;> first | (exfalso; omega) | skip) | ((with_reducible refine pw_in (fun _ _ => ?_) (fun _ => ?_)) <;> first | (exfalso; omega) | skip) | ((with_reducible refine pw_isIn (fun _ _ => ?_) (fun _ => ?_)) <;> first | (exfalso; omega) | skip) | ((with_reducible refine pw_kin ?_ (fun _ _ => ?_) (fun _ => ?_)) ; (omega) <;> first | (exfalso; omega) | skip) | ((with_reducible refine pw_ckin ?_ (fun _ _ => ?_) (fun _ => ?_)); (omega) <;> first | (exfalso; omega) | skip) | ((with_reducible refine pw_many ?_); try simp (disch := omega) only [en, ew, ← ek, hnz, ← eh, pup_x, pup_k, pup_c, pup_r]) | ((with_reducible refine pw_has0 ?_)) | ((with_reducible refine pw_has2 ?_)) | ((with_reducible refine pw_strapped ?_); try simp (disch := omega) only [en, ew, ← ek, hnz, ← eh, pup_x, pup_k, pup_c, pup_r]) | ((with_reducible refine pw_ald ?_ ?_ ?_); omega; omega; try simp (disch := omega) only [en, ew, ← ek, hnz, ← eh, pup_x, pup_k, pup_c, pup_r]) | ((with_reducible refine pw_ast ?_ ?_ ?_); omega; omega) | ((with_reducible refine pw_idx ?_ ?_ ?_); omega; omega) | ((with_reducible refine pw_cp ?_ ?_ ?_ ?_ ?_ ?_); omega; omega; omega; omega; omega) | ((with_reducible refine pw_p32 ?_ ?_ ?_); omega; omega) | ((with_reducible refine pw_p64 ?_ ?_ ?_); omega; omega) | ((with_reducible refine pw_zlt ?_); try simp (disch := omega) only [en, ew, ← ek, hnz, ← eh, pup_x, pup_k, pup_c, pup_r]) | ((with_reducible refine pw_bo ?_ ?_); omega) | ((with_reducible refine pw_mod ?_ ?_ ?_); omega; omega) | ((with_reducible refine pw_div ?_ ?_ ?_); omega; omega) | ((with_reducible refine pw_bite (fun _ => ?_) (fun _ => ?_)) <;> first | (exfalso; omega) | skip) | ((with_reducible refine pw_bsome ?_)) | ((with_reducible refine pw_bzlt ?_)) | ((with_reducible refine pw_bp32 ?_ ?_ ?_); omega; omega) | ((with_reducible refine pw_bass ?_)) | ((with_reducible refine pw_bex ?_)) | ((with_reducible refine pw_exr ?_)) | ((with_reducible refine pw_exl ?_)) | ((with_reducible refine pw_exite (fun _ => ?_) (fun _ => ?_)) <;> first | (exfalso; omega) | skip) | ((with_reducible refine pw_exz ?_)) | ((with_reducible refine pw_exp ?_ ?_ ?_); omega; omega) | ((with_reducible refine pw_exb ?_)))
      refine pw_beq tn ?_
      repeat' (first | with_reducible refine pw_some ?_ | with_reducible refine pw_iteT ?_ | with_reducible refine pw_iteF ?_ | with_reducible refine pw_biteT ?_ | with_reducible refine pw_biteF ?_ | with_reducible refine pw_exiteT ?_ | with_reducible refine pw_exiteF ?_ | with_reducible refine pw_inr ?_ | with_reducible refine pw_inl ?_ | ((with_reducible refine pw_ite (fun _ => ?_) (fun _ => ?_)) <;> first | (exfalso; omega) | skip) | ((with_reducible refine pw_in (fun _ _ => ?_) (fun _ => ?_)) <;> first | (exfalso; omega) | skip) | ((with_reducible refine pw_isIn (fun _ _ => ?_) (fun _ => ?_)) <;> first | (exfalso; omega) | skip) | ((with_reducible refine pw_kin ?_ (fun _ _ => ?_) (fun _ => ?_)) ; (omega) <;> first | (exfalso; omega) | skip) | ((with_reducible refine pw_ckin ?_ (fun _ _ => ?_) (fun _ => ?_)); (omega) <;> first | (exfalso; omega) | skip) | ((with_reducible refine pw_many ?_); try simp (disch := omega) only [en, pup_x, pup_k, pup_c, pup_r]) | ((with_reducible refine pw_has0 ?_)) | ((with_reducible refine pw_has2 ?_)) | ((with_reducible refine pw_strapped ?_); try simp (disch := omega) only [en, pup_x, pup_k, pup_c, pup_r]) | ((with_reducible refine pw_ald ?_ ?_ ?_); omega; omega; try simp (disch := omega) only [en, pup_x, pup_k, pup_c, pup_r]) | ((with_reducible refine pw_ast ?_ ?_ ?_); omega; omega) | ((with_reducible refine pw_idx ?_ ?_ ?_); omega; omega) | ((with_reducible refine pw_cp ?_ ?_ ?_ ?_ ?_ ?_); omega; omega; omega; omega; omega) | ((with_reducible refine pw_p32 ?_ ?_ ?_); omega; omega) | ((with_reducible refine pw_p64 ?_ ?_ ?_); omega; omega) | ((with_reducible refine pw_zlt ?_); try simp (disch := omega) only [en, pup_x, pup_k, pup_c, pup_r]) | ((with_reducible refine pw_bo ?_ ?_); omega) | ((with_reducible refine pw_mod ?_ ?_ ?_); omega; omega) | ((with_reducible refine pw_div ?_ ?_ ?_); omega; omega) | ((with_reducible refine pw_bite (fun _ => ?_) (fun _ => ?_)) <;> first | (exfalso; omega) | skip) | ((with_reducible refine pw_bsome ?_)) | ((with_reducible refine pw_bzlt ?_)) | ((with_reducible refine pw_bp32 ?_ ?_ ?_); omega; omega) | ((with_reducible refine pw_bass ?_)) | ((with_reducible refine pw_bex ?_)) | ((with_reducible refine pw_exr ?_)) | ((with_reducible refine pw_exl ?_)) | ((with_reducible refine pw_exite (fun _ => ?_) (fun _ => ?_)) <;> first | (exfalso; omega) | skip) | ((with_reducible refine pw_exz ?_)) | ((with_reducible refine pw_exp ?_ ?_ ?_); omega; omega) | ((with_reducible refine pw_exb ?_)))
      rw [if_neg a1]
/-! both flights in step -/
def pFf (S0 T0 S T : zP) : Prop := (∀ c, c ≠ 0 → S c = S0 c) ∧ (∀ i, i < 13 ∨ 16 < i → S 0 i = S0 0 i) ∧ (∀ c, c ≠ 0 → c ≠ 12 → T c = T0 c) ∧ ∀ i, i < 32 ∨ 35 < i → T 0 i = T0 0 i
def pFe (S T : zP) : Prop := S 0 13 = T 0 32 ∧ S 0 14 = T 0 33 ∧ S 0 15 = T 0 34 ∧ S 0 16 = T 0 35
/-- on from what is marked comes what is marked, but at c, w -/
def pCl (H M : Int → Int) (c w : Int) : Prop := ∀ e, 0 ≤ e → e < 144 → M e ≠ 0 → H (e / 4) ≠ 3 ∧ ((e / 4 = c ∧ pTn (H (e / 4)) (e % 4) = w) ∨ (¬ pOut (e / 4) (pTn (H (e / 4)) (e % 4)) ∧ M (4 * pTo (e / 4) (pTn (H (e / 4)) (e % 4)) + pTn (H (e / 4)) (e % 4)) ≠ 0))
def pFo : (Int × zP) ⊕ zP → Int × zP
  | .inl r => r
  | .inr s => (1, s)
theorem pw2_fo {P1 P2 : Option ((Int × zP) ⊕ zP)} {Q : Int × zP → Int × zP → Prop} (h : pw P1 (fun x => pw P2 (fun y => Q (pFo x) (pFo y)))) : pw (zEx P1 fun s => some (1, s)) (fun z => pw (zEx P2 fun s => some (1, s)) (fun t => Q z t)) := by
  obtain ⟨x, ex, y, ey, q⟩ := h
  unfold zEx
  rw [ex, ey]
  cases x <;> cases y <;> exact ⟨_, rfl, _, rfl, q⟩
theorem e4 {c w : Int} (w0 : 0 ≤ w) (w1 : w ≤ 3) : (4 * c + w) / 4 = c ∧ (4 * c + w) % 4 = w := by omega
/-- for ever -/
theorem k_ever {H M : Int → Int} (hH : ∀ i, 0 ≤ i → i < 36 → 0 ≤ H i ∧ H i ≤ 3) (hM : ∀ e, 0 ≤ e → e < 144 → M e ≠ 0 → H (e / 4) ≠ 3 ∧ ¬ pOut (e / 4) (pTn (H (e / 4)) (e % 4)) ∧ M (4 * pTo (e / 4) (pTn (H (e / 4)) (e % 4)) + pTn (H (e / 4)) (e % 4)) ≠ 0) {S0 : zP} (n : Nat) (S : zP) (h5 : S0 5 = H) (hf : (∀ c, c ≠ 0 → S c = S0 c) ∧ ∀ i, i < 13 ∨ 16 < i → S 0 i = S0 0 i) (hr : (0 ≤ S 0 14 ∧ S 0 14 ≤ 35) ∧ (0 ≤ S 0 16 ∧ S 0 16 ≤ 3) ∧ (0 ≤ S 0 13 ∧ S 0 13 ≤ 144) ∧ 0 ≤ S 0 15 ∧ S 0 15 ≤ S 0 13) (ho : ¬ pOut (S 0 14) (S 0 16)) (hm : M (4 * pTo (S 0 14) (S 0 16) + S 0 16) ≠ 0) (hn : (145 - S 0 13).toNat < n) :
    pw (zLoop pb_X0_flies_20 n S) (fun x => (pFo x).1 = 0 ∧ (∀ c, c ≠ 0 → (pFo x).2 c = S0 c) ∧ ∀ i, i < 13 ∨ 16 < i → (pFo x).2 0 i = S0 0 i) := by
  refine pw_loop (fun S : zP => ((∀ c, c ≠ 0 → S c = S0 c) ∧ ∀ i, i < 13 ∨ 16 < i → S 0 i = S0 0 i) ∧ ((0 ≤ S 0 14 ∧ S 0 14 ≤ 35) ∧ (0 ≤ S 0 16 ∧ S 0 16 ≤ 3) ∧ (0 ≤ S 0 13 ∧ S 0 13 ≤ 144) ∧ 0 ≤ S 0 15 ∧ S 0 15 ≤ S 0 13) ∧ ¬ pOut (S 0 14) (S 0 16) ∧ M (4 * pTo (S 0 14) (S 0 16) + S 0 16) ≠ 0) (fun S => (145 - S 0 13).toNat) ?_ n S ⟨hf, hr, ho, hm⟩ hn
  clear hf hr ho hm hn S
  rintro S ⟨⟨f1, f2⟩, ⟨⟨c0, c1⟩, ⟨w0, w1⟩, ⟨n0, n1⟩, t0, t1⟩, ho, hm⟩
  obtain ⟨c, ec⟩ : ∃ c, S 0 14 = c := ⟨_, rfl⟩
  obtain ⟨w, ew⟩ : ∃ w, S 0 16 = w := ⟨_, rfl⟩
  obtain ⟨k, en⟩ : ∃ n, S 0 13 = n := ⟨_, rfl⟩
  rw [ec] at c0 c1 ho hm
  rw [ew] at w0 w1 ho hm
  rw [en] at n0 n1 t1
  have s5 : S 5 = H := (f1 5 (by omega)).trans h5
  obtain ⟨-, -, k3, k4⟩ := k_fl1 (S := S) ec ew en c0 c1 w0 w1 n0 (by omega) t0 (by omega) (by rw [s5]; exact hH)
  have q0 := ((fl_all c0 c1 w0 w1).2.2.2.1 ho).2
  have hx := hM _ (by omega) (by omega) hm
  rw [(e4 w0 w1).1, (e4 w0 w1).2] at hx
  rw [s5] at k3 k4
  by_cases hn : k < 144
  · refine ⟨_, k4 ho hx.1 hn, ?_⟩
    have h6 := hH _ q0.1 (by omega)
    have tn := (tn_all h6.1 (by omega) w0 w1).2.1
    refine ⟨⟨⟨fun c hc => ?_, fun i hi => ?_⟩, ?_, ?_, ?_⟩, ?_⟩
    · rw [pup_r hc, pup_r hc, pup_r hc, pup_r hc]; exact f1 c hc
    · rw [pup_k (by omega), pup_k (by omega), pup_k (by omega), pup_k (by omega)]; exact f2 i hi
    · (simp (disch := omega) only [pup_x, pup_k, pup_c, true_and, and_true])
      refine ⟨q0, tn, by omega, ?_, ?_⟩ <;> split <;> omega
    · (simp (disch := omega) only [pup_x, pup_k, pup_c, true_and, and_true])
      exact hx.2.1
    · (simp (disch := omega) only [pup_x, pup_k, pup_c, true_and, and_true])
      exact hx.2.2
    · (simp (disch := omega) only [pup_x, pup_k, pup_c, true_and, and_true])
      omega
  · refine ⟨_, k3 ho hx.1 (by omega), rfl, fun c hc => ?_, fun i hi => ?_⟩
    · show pup _ _ _ _ c = _
      rw [pup_r hc, pup_r hc]; exact f1 c hc
    · show pup _ _ _ _ 0 i = _
      rw [pup_k (by omega), pup_k (by omega)]; exact f2 i hi
theorem k_clear (T : zP) : pw (zLoop pb_X2_isFlown_2 zFuel (0, T)) (fun U => (∀ c, c ≠ 12 → U c = T c) ∧ ∀ i, 0 ≤ i → i < 144 → U 12 i = 0) := by
  have hnz : pnz 0 = 0 := by decide
  refine pw_lp (fun s => (0 ≤ s.1 ∧ s.1 ≤ 144) ∧ (∀ c, c ≠ 12 → s.2 c = T c) ∧ ∀ i, 0 ≤ i → i < s.1 → s.2 12 i = 0) (fun s => (144 - s.1).toNat) ?_ ⟨by first | (dsimp only; omega) | omega, fun _ _ => rfl, fun k a b => absurd b (by dsimp only; omega)⟩ (by first | (dsimp only; omega) | omega)
  rintro ⟨i, U⟩ ⟨⟨i0, i1⟩, u1, u2⟩
  dsimp only at i0 i1 u1 u2
  unfold pb_X2_isFlown_2
  dsimp only
  by_cases hi : i = 144
  · repeat' (first | with_reducible refine pw_some ?_ | with_reducible refine pw_iteT ?_ | with_reducible refine pw_iteF ?_ | with_reducible refine pw_biteT ?_ | with_reducible refine pw_biteF ?_ | with_reducible refine pw_exiteT ?_ | with_reducible refine pw_exiteF ?_ | with_reducible refine pw_inr ?_ | with_reducible refine pw_inl ?_ | ((with_reducible refine pw_ite (fun _ => ?_) (fun _ => ?_)) <;> first | (exfalso; omega) | skip) | ((with_reducible refine pw_in (fun _ _ => ?_) (fun _ => ?_)) <;> first | (exfalso; omega) | skip) | ((with_reducible refine pw_isIn (fun _ _ => ?_) (fun _ => ?_)) <;> first | (exfalso; omega) | skip) | ((with_reducible refine pw_kin ?_ (fun _ _ => ?_) (fun _ => ?_)) ; (omega) <;> first | (exfalso; omega) | skip) | ((with_reducible refine pw_ckin ?_ (fun _ _ => ?_) (fun _ => ?_)); (omega) <;> first | (exfalso; omega) | skip) | ((with_reducible refine pw_many ?_); try simp (disch := omega) only [pup_x, pup_k, pup_c, pup_r]) | ((with_reducible refine pw_has0 ?_)) | ((with_reducible refine pw_has2 ?_)) | ((with_reducible refine pw_strapped ?_); try simp (disch := omega) only [pup_x, pup_k, pup_c, pup_r]) | ((with_reducible refine pw_ald ?_ ?_ ?_); omega; omega; try simp (disch := omega) only [pup_x, pup_k, pup_c, pup_r]) | ((with_reducible refine pw_ast ?_ ?_ ?_); omega; omega) | ((with_reducible refine pw_idx ?_ ?_ ?_); omega; omega) | ((with_reducible refine pw_cp ?_ ?_ ?_ ?_ ?_ ?_); omega; omega; omega; omega; omega) | ((with_reducible refine pw_p32 ?_ ?_ ?_); omega; omega) | ((with_reducible refine pw_p64 ?_ ?_ ?_); omega; omega) | ((with_reducible refine pw_zlt ?_); try simp (disch := omega) only [pup_x, pup_k, pup_c, pup_r]) | ((with_reducible refine pw_bo ?_ ?_); omega) | ((with_reducible refine pw_mod ?_ ?_ ?_); omega; omega) | ((with_reducible refine pw_div ?_ ?_ ?_); omega; omega) | ((with_reducible refine pw_bite (fun _ => ?_) (fun _ => ?_)) <;> first | (exfalso; omega) | skip) | ((with_reducible refine pw_bsome ?_)) | ((with_reducible refine pw_bzlt ?_)) | ((with_reducible refine pw_bp32 ?_ ?_ ?_); omega; omega) | ((with_reducible refine pw_bass ?_)) | ((with_reducible refine pw_bex ?_)) | ((with_reducible refine pw_exr ?_)) | ((with_reducible refine pw_exl ?_)) | ((with_reducible refine pw_exite (fun _ => ?_) (fun _ => ?_)) <;> first | (exfalso; omega) | skip) | ((with_reducible refine pw_exz ?_)) | ((with_reducible refine pw_exp ?_ ?_ ?_); omega; omega) | ((with_reducible refine pw_exb ?_)))
    exact ⟨u1, fun k a b => u2 k a (by omega)⟩
  · repeat' (first | with_reducible refine pw_some ?_ | with_reducible refine pw_iteT ?_ | with_reducible refine pw_iteF ?_ | with_reducible refine pw_biteT ?_ | with_reducible refine pw_biteF ?_ | with_reducible refine pw_exiteT ?_ | with_reducible refine pw_exiteF ?_ | with_reducible refine pw_inr ?_ | with_reducible refine pw_inl ?_ | ((with_reducible refine pw_ite (fun _ => ?_) (fun _ => ?_)) <;> first | (exfalso; omega) | skip) | ((with_reducible refine pw_in (fun _ _ => ?_) (fun _ => ?_)) <;> first | (exfalso; omega) | skip) | ((with_reducible refine pw_isIn (fun _ _ => ?_) (fun _ => ?_)) <;> first | (exfalso; omega) | skip) | ((with_reducible refine pw_kin ?_ (fun _ _ => ?_) (fun _ => ?_)) ; (omega) <;> first | (exfalso; omega) | skip) | ((with_reducible refine pw_ckin ?_ (fun _ _ => ?_) (fun _ => ?_)); (omega) <;> first | (exfalso; omega) | skip) | ((with_reducible refine pw_many ?_); try simp (disch := omega) only [hnz, pup_x, pup_k, pup_c, pup_r]) | ((with_reducible refine pw_has0 ?_)) | ((with_reducible refine pw_has2 ?_)) | ((with_reducible refine pw_strapped ?_); try simp (disch := omega) only [hnz, pup_x, pup_k, pup_c, pup_r]) | ((with_reducible refine pw_ald ?_ ?_ ?_); omega; omega; try simp (disch := omega) only [hnz, pup_x, pup_k, pup_c, pup_r]) | ((with_reducible refine pw_ast ?_ ?_ ?_); omega; omega) | ((with_reducible refine pw_idx ?_ ?_ ?_); omega; omega) | ((with_reducible refine pw_cp ?_ ?_ ?_ ?_ ?_ ?_); omega; omega; omega; omega; omega) | ((with_reducible refine pw_p32 ?_ ?_ ?_); omega; omega) | ((with_reducible refine pw_p64 ?_ ?_ ?_); omega; omega) | ((with_reducible refine pw_zlt ?_); try simp (disch := omega) only [hnz, pup_x, pup_k, pup_c, pup_r]) | ((with_reducible refine pw_bo ?_ ?_); omega) | ((with_reducible refine pw_mod ?_ ?_ ?_); omega; omega) | ((with_reducible refine pw_div ?_ ?_ ?_); omega; omega) | ((with_reducible refine pw_bite (fun _ => ?_) (fun _ => ?_)) <;> first | (exfalso; omega) | skip) | ((with_reducible refine pw_bsome ?_)) | ((with_reducible refine pw_bzlt ?_)) | ((with_reducible refine pw_bp32 ?_ ?_ ?_); omega; omega) | ((with_reducible refine pw_bass ?_)) | ((with_reducible refine pw_bex ?_)) | ((with_reducible refine pw_exr ?_)) | ((with_reducible refine pw_exl ?_)) | ((with_reducible refine pw_exite (fun _ => ?_) (fun _ => ?_)) <;> first | (exfalso; omega) | skip) | ((with_reducible refine pw_exz ?_)) | ((with_reducible refine pw_exp ?_ ?_ ?_); omega; omega) | ((with_reducible refine pw_exb ?_)))
    refine ⟨⟨by first | (dsimp only; omega) | omega, fun c hc => ?_, fun k a b => ?_⟩, by first | (dsimp only; omega) | omega⟩
    · dsimp only
      rw [pup_r hc]; exact u1 c hc
    · dsimp only at b
      dsimp only
      by_cases hk : k = i
      · rw [hk, pup_e rfl]
      · rw [pup_k hk]; exact u2 k a (by omega)
set_option maxHeartbeats 1000000 in
theorem k_fly (hed : pHed (S 5) (T 1)) {c w : Int} (c0 : 0 ≤ c) (c1 : c ≤ 35) (w0 : 0 ≤ w) (w1 : w ≤ 3) : pw (p_X0_flies S c w) (fun z => pw (p_X2_isFlown T c w) (fun t => z.1 = t.1 ∧ (z.1 = 0 ∨ z.1 = 1) ∧ (z.1 = 1 → pFe z.2 t.2) ∧ pFf S T z.2 t.2)) := by
  obtain ⟨H, eH⟩ : ∃ H, H = S 5 := ⟨_, rfl⟩
  have hH : ∀ i, 0 ≤ i → i < 36 → 0 ≤ H i ∧ H i ≤ 3 := fun i a b => by rw [eH]; have := hed i a b; omega
  have hHT : ∀ i, 0 ≤ i → i < 36 → T 1 (71 + i) = H i := fun i a b => by rw [eH]; exact (hed i a b).1.symm
  obtain ⟨U, eU, u1, u2⟩ := k_clear T
  unfold p_X0_flies p_X2_isFlown
  rw [eU]
  refine pw2_fo (Q := fun z t => z.1 = t.1 ∧ (z.1 = 0 ∨ z.1 = 1) ∧ (z.1 = 1 → pFe z.2 t.2) ∧ pFf S T z.2 t.2) ?_
  refine pw2_loopy (fun s t => pFf S T s t ∧ pFe s t ∧ ((0 ≤ t 0 33 ∧ t 0 33 ≤ 35) ∧ (0 ≤ t 0 35 ∧ t 0 35 ≤ 3) ∧ (0 ≤ t 0 34 ∧ t 0 34 ≤ t 0 32)) ∧ t 0 32 = pCnt (t 12) 144 ∧ pCl H (t 12) (t 0 33) (t 0 35)) (fun s => (145 - s 0 13).toNat) ?_ 1000000 1000000 _ _ ⟨⟨fun c hc => ?_, fun i hi => ?_, fun c hc hd => ?_, fun i hi => ?_⟩, ⟨?_, ?_, ?_, ?_⟩, ⟨?_, ?_, ?_⟩, ?_, ?_⟩ (by (simp (disch := omega) only [pup_x, pup_k, pup_c, true_and, and_true]); omega) (by (simp (disch := omega) only [pup_x, pup_k, pup_c, true_and, and_true]); omega)
  rotate_left
  · rw [pup_r hc, pup_r hc, pup_r hc, pup_r hc]
  · rw [pup_k (by omega), pup_k (by omega), pup_k (by omega), pup_k (by omega)]
  · rw [pup_r hc, pup_r hc, pup_r hc, pup_r hc]; exact u1 c hd
  · rw [pup_k (by omega), pup_k (by omega), pup_k (by omega), pup_k (by omega)]; exact congrFun (u1 0 (by omega)) i
  · (simp (disch := omega) only [pup_x, pup_k, pup_c, true_and, and_true])
  · (simp (disch := omega) only [pup_x, pup_k, pup_c, true_and, and_true])
  · (simp (disch := omega) only [pup_x, pup_k, pup_c, true_and, and_true])
  · (simp (disch := omega) only [pup_x, pup_k, pup_c, true_and, and_true])
  · (simp (disch := omega) only [pup_x, pup_k, pup_c, true_and, and_true])
    omega
  · (simp (disch := omega) only [pup_x, pup_k, pup_c, true_and, and_true])
    omega
  · (simp (disch := omega) only [pup_x, pup_k, pup_c, true_and, and_true])
    omega
  · (simp (disch := omega) only [pup_x, pup_k, pup_c, true_and, and_true])
    exact (pCnt_0 144 (fun i a b => u2 i a b)).symm
  · intro e e0 e1 hm
    exfalso
    rw [pup_r (by omega), pup_r (by omega), pup_r (by omega), pup_r (by omega)] at hm
    exact hm (u2 e e0 e1)
  · clear c0 c1 w0 w1 eU u1 u2 U
    rintro s t ⟨⟨f1, f2, f3, f4⟩, ⟨a1, a2, a3, a4⟩, ⟨⟨c0, c1⟩, ⟨w0, w1⟩, t0, t1⟩, hct, hcl⟩
    obtain ⟨c, ec⟩ : ∃ c, t 0 33 = c := ⟨_, rfl⟩
    obtain ⟨w, ew⟩ : ∃ w, t 0 35 = w := ⟨_, rfl⟩
    obtain ⟨k, ek⟩ : ∃ n, t 0 32 = n := ⟨_, rfl⟩
    have hle := pCnt_le (t 12) 144
    rw [ec] at c0 c1 a2 hcl
    rw [ew] at w0 w1 a4 hcl
    rw [ek] at hct a1 t1
    have s5 : s 5 = H := (f1 5 (by omega)).trans eH.symm
    have t5 : ∀ i, 0 ≤ i → i < 36 → t 1 (71 + i) = H i := fun i a b => by rw [f3 1 (by omega) (by omega)]; exact hHT i a b
    obtain ⟨j1, j2, j3, j4⟩ := k_fl1 (S := s) a2 a4 a1 c0 c1 w0 w1 (by omega) (by omega) (by omega) (by omega) (by rw [s5]; exact hH)
    obtain ⟨l1, l2, l3, l4⟩ := k_fl2 (T := t) ec ew ek c0 c1 w0 w1 (by omega) (by omega) (by omega) (by omega) (fun i a b => by rw [t5 i a b]; exact hH i a b)
    by_cases ho : pOut c w
    · refine Or.inr ⟨_, j1 ho, _, l1 ho, ?_⟩
      exact ⟨rfl, Or.inr rfl, fun _ => ⟨a1.trans ek.symm, a2.trans ec.symm, a3, a4.trans ew.symm⟩, f1, f2, f3, f4⟩
    have q0 := ((fl_all c0 c1 w0 w1).2.2.2.1 ho).2
    obtain ⟨d, ed⟩ : ∃ d, d = pTo c w := ⟨_, rfl⟩
    rw [← ed] at j2 j3 j4 l2 l3 l4 q0
    have h6 := hH d q0.1 (by omega)
    rw [t5 d q0.1 (by omega)] at l3 l4
    rw [s5] at j2 j3 j4
    by_cases hm : t 12 (4 * d + w) = 0
    · have hlt := pCnt_lt (f := t 12) (i := 4 * d + w) (by omega) hm 144 (by omega)
      by_cases h3 : H d = 3
      · refine Or.inr ⟨_, j2 ho h3, _, l3 ho hm h3, rfl, Or.inr rfl, fun _ => ⟨?_, ?_, ?_, ?_⟩, fun c hc => ?_, fun i hi => ?_, fun c hc hd => ?_, fun i hi => ?_⟩
        · dsimp only [pFo]
          (simp (disch := omega) only [pup_x, pup_k, pup_c, true_and, and_true])
        · dsimp only [pFo]
          (simp (disch := omega) only [pup_x, pup_k, pup_c, true_and, and_true])
        · dsimp only [pFo]
          (simp (disch := omega) only [pup_x, pup_k, pup_c, true_and, and_true])
          exact a3
        · dsimp only [pFo]
          (simp (disch := omega) only [pup_x, pup_k, pup_c, true_and, and_true])
          exact a4.trans ew.symm
        · show pup _ _ _ _ c = _
          rw [pup_r hc, pup_r hc]; exact f1 c hc
        · show pup _ _ _ _ 0 i = _
          rw [pup_k (by omega), pup_k (by omega)]; exact f2 i hi
        · show pup _ _ _ _ c = _
          rw [pup_r hd, pup_r hc, pup_r hc]; exact f3 c hc hd
        · dsimp only [pFo]
          simp (disch := omega) only [pup_k, pup_c]
          exact f4 i hi
      · have tn := (tn_all h6.1 (by omega) w0 w1).2.1
        refine Or.inr ⟨_, j4 ho h3 (by omega), _, l4 ho hm h3, ⟨⟨fun c hc => ?_, fun i hi => ?_, fun c hc hd => ?_, fun i hi => ?_⟩, ⟨?_, ?_, ?_, ?_⟩, ?_, ?_, ?_⟩, ?_⟩
        · rw [pup_r hc, pup_r hc, pup_r hc, pup_r hc]; exact f1 c hc
        · rw [pup_k (by omega), pup_k (by omega), pup_k (by omega), pup_k (by omega)]; exact f2 i hi
        · rw [pup_r hc, pup_r hc, pup_r hd, pup_r hc, pup_r hc]; exact f3 c hc hd
        · simp (disch := omega) only [pup_k, pup_c]
          exact f4 i hi
        · (simp (disch := omega) only [pup_x, pup_k, pup_c, true_and, and_true])
        · (simp (disch := omega) only [pup_x, pup_k, pup_c, true_and, and_true])
        · (simp (disch := omega) only [pup_x, pup_k, pup_c, true_and, and_true])
          rw [a3]
        · (simp (disch := omega) only [pup_x, pup_k, pup_c, true_and, and_true])
        · (simp (disch := omega) only [pup_x, pup_k, pup_c, true_and, and_true])
          refine ⟨q0, tn, ?_, ?_⟩ <;> split <;> omega
        · rw [pup_r (by omega : (12 : Nat) ≠ 0), pup_r (by omega : (12 : Nat) ≠ 0)]
          rw [pCnt_up (f := t 12) (g := pup (pup (pup t 0 33 d) 0 32 (k + 1)) 12 (4 * d + w) 1 12) (i := 4 * d + w) (by omega) hm (by rw [pup_e rfl]; omega) (fun j hj => by rw [pup_k hj, pup_c (by omega), pup_c (by omega)]) 144 (by omega)]
          (simp (disch := omega) only [pup_x, pup_k, pup_c, true_and, and_true])
          omega
        · (simp (disch := omega) only [pup_x, pup_k, pup_c, true_and, and_true])
          rw [pup_r (by omega : (12 : Nat) ≠ 0), pup_r (by omega : (12 : Nat) ≠ 0)]
          intro e e0 e1 he
          by_cases hed : e = 4 * d + w
          · rw [hed, (e4 w0 w1).1, (e4 w0 w1).2]
            exact ⟨h3, Or.inl ⟨rfl, rfl⟩⟩
          · rw [pup_k hed, pup_c (by omega), pup_c (by omega)] at he
            have hx := hcl e e0 e1 he
            refine ⟨hx.1, ?_⟩
            rcases hx.2 with ⟨x1, x2⟩ | ⟨x1, x2⟩
            · refine Or.inr ⟨by rw [x1] at x2 ⊢; rw [x2]; exact ho, ?_⟩
              rw [x1] at x2 ⊢
              rw [x2, ← ed, pup_e rfl]; omega
            · refine Or.inr ⟨x1, ?_⟩
              obtain ⟨e2, he2⟩ : ∃ e2, e2 = 4 * pTo (e / 4) (pTn (H (e / 4)) (e % 4)) + pTn (H (e / 4)) (e % 4) := ⟨_, rfl⟩
              rw [← he2] at x2 ⊢
              by_cases hq : e2 = 4 * d + w
              · rw [hq, pup_e rfl]; omega
              · rw [pup_k hq, pup_c (by omega), pup_c (by omega)]; exact x2
        · (simp (disch := omega) only [pup_x, pup_k, pup_c, true_and, and_true])
          omega
    · refine Or.inl ⟨_, l2 ho hm, fun n hn => ?_⟩
      have hcl' : ∀ e, 0 ≤ e → e < 144 → t 12 e ≠ 0 → H (e / 4) ≠ 3 ∧ ¬ pOut (e / 4) (pTn (H (e / 4)) (e % 4)) ∧ t 12 (4 * pTo (e / 4) (pTn (H (e / 4)) (e % 4)) + pTn (H (e / 4)) (e % 4)) ≠ 0 := by
        intro e e0 e1 he
        have hx := hcl e e0 e1 he
        refine ⟨hx.1, ?_⟩
        rcases hx.2 with ⟨x1, x2⟩ | x
        · rw [x1] at x2 ⊢
          rw [x2, ← ed]; exact ⟨ho, hm⟩
        · exact x
      refine pw_mono (k_ever hH hcl' n s eH.symm ⟨f1, f2⟩ (by rw [a1, a2, a4]; omega) (by rw [a2, a4]; exact ho) (by rw [a2, a4, ← ed]; exact hm) hn) ?_
      rintro x ⟨x1, x2, x3⟩
      refine ⟨x1, Or.inl x1, fun h => ?_, x2, x3, fun c hc hd => ?_, fun i hi => ?_⟩
      · rw [x1] at h; omega
      · show pup _ _ _ _ c = _
        rw [pup_r hc, pup_r hc]; exact f3 c hc hd
      · show pup _ _ _ _ 0 i = _
        rw [pup_k (by omega), pup_k (by omega)]; exact f4 i hi
theorem pRel_f (h : pRel W S T) {z u : zP} (f : pFf S T z u) : pRel W z u :=
  pRel_w h (fun c a b => f.1 c (by omega)) (fun i hi => f.2.1 i (by omega)) (fun c a b => f.2.2.1 c (by omega) (by omega)) (fun i hi => f.2.2.2 i (by omega))
end
