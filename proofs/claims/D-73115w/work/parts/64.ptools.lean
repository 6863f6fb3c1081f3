/-! P-LEVEL, tools: what a program over whole numbers answers -/
set_option maxRecDepth 100000
def pw {α : Type} (P : Option α) (Q : α → Prop) : Prop := ∃ r, P = some r ∧ Q r
def pSm {ρ σ : Type} (Q : ρ → Prop) (A : σ → Prop) : ρ ⊕ σ → Prop
  | .inl r => Q r
  | .inr s => A s
section
variable {α β ρ σ : Type} {Q : α → Prop} {S : zP} {c n : Nat} {i v x y : Int}
theorem pw_some {r : α} (h : Q r) : pw (some r) Q := ⟨r, rfl, h⟩
theorem pw_inl {q : ρ → Prop} {A : σ → Prop} {r : ρ} (h : q r) : pw (some (.inl r)) (pSm q A) := ⟨_, rfl, h⟩
theorem pw_inr {q : ρ → Prop} {A : σ → Prop} {s : σ} (h : A s) : pw (some (.inr s)) (pSm q A) := ⟨_, rfl, h⟩
theorem pw_mono {P : Option α} {A : α → Prop} (h : pw P A) (k : ∀ r, A r → Q r) : pw P Q := by
  obtain ⟨r, e, a⟩ := h; exact ⟨r, e, k r a⟩
theorem pw_bind {P : Option β} {K : β → Option α} (A : β → Prop) (h : pw P A) (k : ∀ r, A r → pw (K r) Q) : pw (P.bind K) Q := by
  obtain ⟨r, e, a⟩ := h; rw [e]; exact k r a
theorem pw_beq {P : Option β} {K : β → Option α} {r : β} (h : P = some r) (k : pw (K r) Q) : pw (P.bind K) Q := by rw [h]; exact k
theorem pw_eq {P : Option α} {r : α} (h : P = some r) (k : Q r) : pw P Q := ⟨r, h, k⟩
theorem pw_to {P : Option α} {r : α} (h : pw P (fun z => z = r)) : P = some r := by obtain ⟨z, e, a⟩ := h; rw [e, a]
theorem pw_bsome {K : β → Option α} {r : β} (k : pw (K r) Q) : pw ((some r).bind K) Q := k
theorem pw_bass {γ : Type} {P : Option γ} {K : γ → Option β} {K' : β → Option α} (k : pw (P.bind fun z => (K z).bind K') Q) : pw ((P.bind K).bind K') Q := by
  cases P with
  | none => exact k
  | some z => exact k
theorem pw_bzlt {γ : Type} {e : γ} {K : γ → Option β} {K' : β → Option α} (k : pw ((K e).bind K') Q) : pw ((zlt e K).bind K') Q := k
theorem pw_bp32 {K : Int → Option β} {K' : β → Option α} (h0 : -2147483648 ≤ x) (h1 : x ≤ 2147483647) (k : pw ((K x).bind K') Q) : pw ((p32 x K).bind K') Q := by
  unfold p32; rw [if_pos ⟨h0, h1⟩]; exact k
theorem pw_bite {p : Prop} [Decidable p] {A B : Option β} {K : β → Option α} (h : p → pw (A.bind K) Q) (h' : ¬ p → pw (B.bind K) Q) : pw ((if p then A else B).bind K) Q := by
  by_cases e : p
  · rw [if_pos e]; exact h e
  · rw [if_neg e]; exact h' e
theorem pw_bex {P : Option (β ⊕ σ)} {K : σ → Option β} {K' : β → Option α} (k : pw (P.bind fun z => match z with | .inl r => K' r | .inr s => (K s).bind K') Q) : pw ((zEx P K).bind K') Q := by
  unfold zEx
  cases P with
  | none => exact k
  | some z => cases z <;> exact k
theorem pw_ald {K : Int → Option α} (h0 : 0 ≤ i) (h1 : i < (n : Int)) (k : pw (K (S c i)) Q) : pw ((pald S c n i).bind K) Q := by
  unfold pald; rw [if_pos ⟨h0, h1⟩]; exact k
theorem pw_ast {K : zP → Option α} (h0 : 0 ≤ i) (h1 : i < (n : Int)) (k : pw (K (pup S c i v)) Q) : pw ((past S c n i v).bind K) Q := by
  unfold past; rw [if_pos ⟨h0, h1⟩]; exact k
theorem pw_idx {K : Nat → Option α} (h0 : 0 ≤ i) (h1 : i < (n : Int)) (k : pw (K i.toNat) Q) : pw ((pidx n i).bind K) Q := by
  unfold pidx; rw [if_pos ⟨h0, h1⟩]; exact k
theorem pw_cp {K : zP → Option α} {a na b nb : Nat} {sp dp w : Int} (h0 : 0 ≤ sp) (h1 : 0 ≤ dp) (h2 : 0 ≤ w) (h3 : sp + w ≤ (na : Int)) (h4 : dp + w ≤ (nb : Int)) (k : pw (K (pcpy S a sp b dp w)) Q) : pw ((pcp S a na sp b nb dp w).bind K) Q := by
  unfold pcp; rw [if_pos ⟨⟨h0, h1, h2⟩, h3, h4⟩]; exact k
theorem pw_p32 {K : Int → Option α} (h0 : -2147483648 ≤ x) (h1 : x ≤ 2147483647) (k : pw (K x) Q) : pw (p32 x K) Q := by
  unfold p32; rw [if_pos ⟨h0, h1⟩]; exact k
theorem pw_p64 {K : Int → Option α} (h0 : -9223372036854775808 ≤ x) (h1 : x ≤ 9223372036854775807) (k : pw (K x) Q) : pw (p64 x K) Q := by
  unfold p64; rw [if_pos ⟨h0, h1⟩]; exact k
theorem pw_zlt {γ : Type} {e : γ} {K : γ → Option α} (k : pw (K e) Q) : pw (zlt e K) Q := k
theorem pw_bo {K : Int → Option α} (h : x = 0 ∨ x = 1) (k : pw (K x) Q) : pw ((pbo x).bind K) Q := by
  unfold pbo; rw [if_pos h]; exact k
theorem pw_mod {K : Int → Option α} (h0 : 0 ≤ x) (h1 : 0 < y) (k : pw (K (x % y)) Q) : pw ((pmod x y).bind K) Q := by
  unfold pmod; rw [if_neg (by omega), Int.tmod_eq_emod_of_nonneg h0]; exact k
theorem pw_div {K : Int → Option α} (h0 : 0 ≤ x) (h1 : 0 < y) (k : pw (K (x / y)) Q) : pw ((pdiv x y).bind K) Q := by
  unfold pdiv; rw [if_neg (by omega), Int.tdiv_eq_ediv_of_nonneg h0]; exact k
theorem pw_jmod {K : Int → Option α} (h0 : 0 ≤ x) (h1 : 0 < y) (k : pw (K (x % y)) Q) : pw ((pjmod x y).bind K) Q := by
  unfold pjmod; rw [if_neg (by omega), Int.tmod_eq_emod_of_nonneg h0]; exact k
theorem pw_jdiv {K : Int → Option α} (h0 : 0 ≤ x) (h1 : 0 < y) (k : pw (K (x / y)) Q) : pw ((pjdiv x y).bind K) Q := by
  unfold pjdiv; rw [if_neg (by omega), Int.tdiv_eq_ediv_of_nonneg h0]; exact k
theorem pw_ite {p : Prop} [Decidable p] {A B : Option α} (h : p → pw A Q) (h' : ¬ p → pw B Q) : pw (if p then A else B) Q := by
  by_cases e : p
  · rw [if_pos e]; exact h e
  · rw [if_neg e]; exact h' e
theorem pw_iteT {d : Decidable True} {A B : Option α} (h : pw A Q) : pw (@ite _ True d A B) Q := by rw [if_pos trivial]; exact h
theorem pw_iteF {d : Decidable False} {A B : Option α} (h : pw B Q) : pw (@ite _ False d A B) Q := by rw [if_neg (fun x => x)]; exact h
theorem pw_biteT {d : Decidable True} {A B : Option β} {K : β → Option α} (h : pw (A.bind K) Q) : pw ((@ite _ True d A B).bind K) Q := by rw [if_pos trivial]; exact h
theorem pw_biteF {d : Decidable False} {A B : Option β} {K : β → Option α} (h : pw (B.bind K) Q) : pw ((@ite _ False d A B).bind K) Q := by rw [if_neg (fun x => x)]; exact h
theorem pw_exiteT {d : Decidable True} {A B : Option (α ⊕ σ)} {K : σ → Option α} (h : pw (zEx A K) Q) : pw (zEx (@ite _ True d A B) K) Q := by rw [if_pos trivial]; exact h
theorem pw_exiteF {d : Decidable False} {A B : Option (α ⊕ σ)} {K : σ → Option α} (h : pw (zEx B K) Q) : pw (zEx (@ite _ False d A B) K) Q := by rw [if_neg (fun x => x)]; exact h
/-! a way out -/
theorem pw_ex {P : Option (α ⊕ σ)} {K : σ → Option α} (A : σ → Prop) (h : pw P (pSm Q A)) (k : ∀ s, A s → pw (K s) Q) : pw (zEx P K) Q := by
  obtain ⟨z, e, a⟩ := h
  rw [e]
  cases z with
  | inl r => exact ⟨r, rfl, a⟩
  | inr s => exact k s a
theorem pw_exl {K : σ → Option α} {r : α} (h : Q r) : pw (zEx (some (.inl r)) K) Q := ⟨r, rfl, h⟩
theorem pw_exr {K : σ → Option α} {s : σ} (k : pw (K s) Q) : pw (zEx (some (.inr s)) K) Q := k
theorem pw_exite {p : Prop} [Decidable p] {A B : Option (α ⊕ σ)} {K : σ → Option α} (h : p → pw (zEx A K) Q) (h' : ¬ p → pw (zEx B K) Q) : pw (zEx (if p then A else B) K) Q := by
  by_cases e : p
  · rw [if_pos e]; exact h e
  · rw [if_neg e]; exact h' e
theorem pw_exb {P : Option β} {K' : β → Option (α ⊕ σ)} {K : σ → Option α} (k : pw (P.bind fun z => zEx (K' z) K) Q) : pw (zEx (P.bind K') K) Q := by
  cases P with
  | none => exact k
  | some z => exact k
theorem pw_exz {γ : Type} {e : γ} {K' : γ → Option (α ⊕ σ)} {K : σ → Option α} (k : pw (zEx (K' e) K) Q) : pw (zEx (zlt e K') K) Q := k
theorem pw_exp {K' : Int → Option (α ⊕ σ)} {K : σ → Option α} (h0 : -2147483648 ≤ x) (h1 : x ≤ 2147483647) (k : pw (zEx (K' x) K) Q) : pw (zEx (p32 x K') K) Q := by
  unfold p32; rw [if_pos ⟨h0, h1⟩]; exact k
/-- a loop: an invariant, a measure -/
theorem pw_loop {b : σ → Option (ρ ⊕ σ)} {q : ρ → Prop} (I : σ → Prop) (μ : σ → Nat) (h : ∀ s, I s → pw (b s) (pSm q (fun t => I t ∧ μ t < μ s))) : ∀ (n : Nat) (s : σ), I s → μ s < n → pw (zLoop b n s) q
  | 0, _, _, hm => absurd hm (Nat.not_lt_zero _)
  | n + 1, s, hi, hm => by
    rw [zLoop_s]
    exact pw_ex _ (h s hi) (fun t ht => pw_loop I μ h n t ht.1 (by omega))
/-- the same, at the fuel of the programs -/
theorem pw_lp {b : σ → Option (ρ ⊕ σ)} {q : ρ → Prop} {s : σ} (I : σ → Prop) (μ : σ → Nat) (h : ∀ s, I s → pw (b s) (pSm q (fun t => I t ∧ μ t < μ s))) (hi : I s) (hm : μ s < 1000000) : pw (zLoop b zFuel s) q := pw_loop I μ h 1000000 s hi hm
end
/-! two programs at once -/
def pS2 {ρ σ ρ' τ : Type} (Q : ρ → ρ' → Prop) (A : σ → τ → Prop) : ρ ⊕ σ → ρ' ⊕ τ → Prop
  | .inl x, .inl y => Q x y
  | .inr x, .inr y => A x y
  | _, _ => False
theorem pw2_bind {α β γ δ : Type} {P1 : Option α} {P2 : Option β} {K1 : α → Option γ} {K2 : β → Option δ} {Q : γ → δ → Prop} (A : α → β → Prop) (h : pw P1 (fun r => pw P2 (fun r' => A r r'))) (k : ∀ r r', A r r' → pw (K1 r) (fun z => pw (K2 r') (fun t => Q z t))) : pw (P1.bind K1) (fun z => pw (P2.bind K2) (fun t => Q z t)) := by
  obtain ⟨r, e, r', e', a⟩ := h
  rw [e]
  obtain ⟨z, ez, t, et, q⟩ := k r r' a
  exact ⟨z, ez, t, by rw [e']; exact et, q⟩
theorem pw2_loop {ρ σ ρ' τ : Type} {b1 : σ → Option (ρ ⊕ σ)} {b2 : τ → Option (ρ' ⊕ τ)} {Q : ρ → ρ' → Prop} (I : σ → τ → Prop) (μ : σ → Nat) (h : ∀ s t, I s t → pw (b1 s) (fun x => pw (b2 t) (fun y => pS2 Q (fun s' t' => I s' t' ∧ μ s' < μ s) x y))) : ∀ (n m : Nat) (s : σ) (t : τ), I s t → μ s < n → μ s < m → pw (zLoop b1 n s) (fun r => pw (zLoop b2 m t) (fun r' => Q r r'))
  | 0, _, _, _, _, hm, _ => absurd hm (Nat.not_lt_zero _)
  | _ + 1, 0, _, _, _, _, hm => absurd hm (Nat.not_lt_zero _)
  | n + 1, m + 1, s, t, hi, hm, hm' => by
    rw [zLoop_s, zLoop_s]
    obtain ⟨x, ex, y, ey, a⟩ := h s t hi
    unfold zEx
    rw [ex, ey]
    cases x with
    | inl x => cases y with
      | inl y => exact ⟨x, rfl, y, rfl, a⟩
      | inr y => exact a.elim
    | inr x => cases y with
      | inl y => exact a.elim
      | inr y => exact pw2_loop I μ h n m x y a.1 (by have := a.2; omega) (by have := a.2; omega)
theorem pw2_lp {ρ σ ρ' τ : Type} {b1 : σ → Option (ρ ⊕ σ)} {b2 : τ → Option (ρ' ⊕ τ)} {Q : ρ → ρ' → Prop} {s : σ} {t : τ} (I : σ → τ → Prop) (μ : σ → Nat) (h : ∀ s t, I s t → pw (b1 s) (fun x => pw (b2 t) (fun y => pS2 Q (fun s' t' => I s' t' ∧ μ s' < μ s) x y))) (hi : I s t) (hm : μ s < 1000000) : pw (zLoop b1 zFuel s) (fun r => pw (zLoop b2 zFuel t) (fun r' => Q r r')) := pw2_loop I μ h 1000000 1000000 s t hi hm hm
theorem pw2_some {α β : Type} {x : α} {y : β} {Q : α → β → Prop} (h : Q x y) : pw (some x) (fun z => pw (some y) (fun t => Q z t)) := ⟨x, rfl, y, rfl, h⟩
/-! places written -/
theorem pup_e {S : zP} {c : Nat} {i i' v : Int} (h : i' = i) : pup S c i v c i' = v := if_pos ⟨rfl, h⟩
theorem pup_x {S : zP} {c c' : Nat} {i i' v : Int} (hc : c' = c) (h : i' = i) : pup S c i v c' i' = v := if_pos ⟨hc, h⟩
theorem pup_k {S : zP} {c c' : Nat} {i i' v : Int} (h : i' ≠ i) : pup S c i v c' i' = S c' i' := if_neg (fun q => h q.2)
theorem pup_c {S : zP} {c c' : Nat} {i i' v : Int} (h : c' ≠ c) : pup S c i v c' i' = S c' i' := if_neg (fun q => h q.1)
theorem pup_r {S : zP} {c c' : Nat} {i v : Int} (h : c' ≠ c) : pup S c i v c' = S c' := funext fun _ => pup_c h
theorem pcpy_c {S : zP} {a b c : Nat} {sp dp w i : Int} (h : c ≠ b) : pcpy S a sp b dp w c i = S c i := if_neg (fun q => h q.1)
theorem pcpy_i {S : zP} {a b : Nat} {sp dp w i : Int} (h0 : dp ≤ i) (h1 : i < dp + w) : pcpy S a sp b dp w b i = S a (sp + (i - dp)) := if_pos ⟨rfl, h0, h1⟩
theorem pcpy_o {S : zP} {a b : Nat} {sp dp w i : Int} (h : i < dp ∨ dp + w ≤ i) : pcpy S a sp b dp w b i = S b i := if_neg (fun q => by omega)
theorem pdv_n {x k : Int} (h : 0 ≤ x) : pdv x k = x / k := if_pos h
theorem prm_n {x k : Int} (h : 0 ≤ x) : prm x k = x % k := if_pos h
/-! the small ones -/
theorem k_in (x l h : Int) : p_X0_in x l h = some (if l ≤ x ∧ x ≤ h then 1 else 0) := by
  unfold p_X0_in
  by_cases h1 : x < l
  · rw [if_pos h1, if_neg (by omega)]
  · rw [if_neg h1]
    by_cases h2 : h < x
    · rw [if_pos h2, if_neg (by omega)]
    · rw [if_neg h2, if_pos (by omega)]
theorem k_isIn (x l h : Int) : p_X2_isIn x l h = some (if l ≤ x ∧ x ≤ h then 1 else 0) := k_in x l h
def pHas (x k : Int) : Int := if pand (pshr x k) 1 = 1 then 1 else 0
theorem pHas_b (x k : Int) : pHas x k = 0 ∨ pHas x k = 1 := by
  unfold pHas
  by_cases h : pand (pshr x k) 1 = 1
  · rw [if_pos h]; exact Or.inr rfl
  · rw [if_neg h]; exact Or.inl rfl
theorem k_has0 (x k : Int) : p_X0_has x k = some (pHas x k) := by
  unfold p_X0_has pHas
  show (if pand (pshr x k) 1 = 1 then some 1 else some 0) = _
  by_cases h : pand (pshr x k) 1 = 1
  · rw [if_pos h, if_pos h]
  · rw [if_neg h, if_neg h]
theorem k_has2 (x k : Int) : p_X2_has x k = some (pHas x k) := k_has0 x k
section
variable {α : Type} {Q : α → Prop} {K : Int → Option α} {x l h : Int}
theorem pw_in (h1 : l ≤ x → x ≤ h → pw (K 1) Q) (h0 : x < l ∨ h < x → pw (K 0) Q) : pw ((p_X0_in x l h).bind K) Q := by
  rw [k_in]
  by_cases e : l ≤ x ∧ x ≤ h
  · rw [if_pos e]; exact h1 e.1 e.2
  · rw [if_neg e]; exact h0 (by omega)
theorem pw_isIn (h1 : l ≤ x → x ≤ h → pw (K 1) Q) (h0 : x < l ∨ h < x → pw (K 0) Q) : pw ((p_X2_isIn x l h).bind K) Q := by
  rw [k_isIn]
  by_cases e : l ≤ x ∧ x ≤ h
  · rw [if_pos e]; exact h1 e.1 e.2
  · rw [if_neg e]; exact h0 (by omega)
theorem pw_kin {S : zP} (hr : 0 ≤ S 1 0 ∧ S 1 0 ≤ 6) (h1 : 0 ≤ x → x < S 1 0 → pw (K 1) Q) (h0 : x < 0 ∨ S 1 0 ≤ x → pw (K 0) Q) : pw ((p_X2_isKin S x).bind K) Q := by
  unfold p_X2_isKin
  refine pw_bass (pw_ald (by omega) (by omega) (pw_bp32 (by omega) (by omega) (pw_bass (pw_isIn (fun a b => ?_) (fun a => ?_)))))
  · exact pw_bass (pw_bo (by omega) (pw_bsome (h1 a (by omega))))
  · exact pw_bass (pw_bo (by omega) (pw_bsome (h0 (by omega))))
theorem pw_many {S : zP} (k : pw (K (S 2 0)) Q) : pw ((p_X0_many S).bind K) Q := by
  unfold p_X0_many
  exact pw_bass (pw_ald (by omega) (by omega) (pw_bsome k))
theorem pw_ckin {S : zP} (hr : 0 ≤ S 2 0 ∧ S 2 0 ≤ 6) (h1 : 0 ≤ x → x < S 2 0 → pw (K 1) Q) (h0 : x < 0 ∨ S 2 0 ≤ x → pw (K 0) Q) : pw ((p_X0_isKin S x).bind K) Q := by
  unfold p_X0_isKin
  refine pw_bass (pw_many (pw_bp32 (by omega) (by omega) (pw_bass (pw_in (fun a b => ?_) (fun a => ?_)))))
  · exact pw_bass (pw_bo (by omega) (pw_bsome (h1 a (by omega))))
  · exact pw_bass (pw_bo (by omega) (pw_bsome (h0 (by omega))))
theorem pw_has0 {b : Int} (k : pw (K (pHas x b)) Q) : pw ((p_X0_has x b).bind K) Q := by rw [k_has0]; exact k
theorem pw_has2 {b : Int} (k : pw (K (pHas x b)) Q) : pw ((p_X2_has x b).bind K) Q := by rw [k_has2]; exact k
theorem pw_strapped {S : zP} (k : pw (K (pHas (S 1 10) x)) Q) : pw ((p_X2_isStrapped S x).bind K) Q := by
  unfold p_X2_isStrapped
  exact pw_bass (pw_ald (by omega) (by omega) (pw_bass (pw_has2 (pw_bass (pw_bo (pHas_b _ _) (pw_bsome k))))))
end
