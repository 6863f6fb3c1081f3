/-! P-LEVEL, base: the shallow programs over whole numbers, in one block of cells (cell, place) -/
set_option maxRecDepth 100000
abbrev zP : Type := Nat → Int → Int
def pup (S : zP) (c : Nat) (i v : Int) : zP := fun c' i' => if c' = c ∧ i' = i then v else S c' i'
def p32 {β : Type} (x : Int) (k : Int → Option β) : Option β := if -2147483648 ≤ x ∧ x ≤ 2147483647 then k x else none
def p64 {β : Type} (x : Int) (k : Int → Option β) : Option β := if -9223372036854775808 ≤ x ∧ x ≤ 9223372036854775807 then k x else none
def pald (S : zP) (c n : Nat) (i : Int) : Option Int := if 0 ≤ i ∧ i < (n : Int) then some (S c i) else none
def past (S : zP) (c n : Nat) (i v : Int) : Option zP := if 0 ≤ i ∧ i < (n : Int) then some (pup S c i v) else none
def pidx (n : Nat) (i : Int) : Option Nat := if 0 ≤ i ∧ i < (n : Int) then some i.toNat else none
def pcpy (S : zP) (a : Nat) (sp : Int) (b : Nat) (dp n : Int) : zP := fun c i => if c = b ∧ dp ≤ i ∧ i < dp + n then S a (sp + (i - dp)) else S c i
def pcp (S : zP) (a na : Nat) (sp : Int) (b nb : Nat) (dp n : Int) : Option zP := if (0 ≤ sp ∧ 0 ≤ dp ∧ 0 ≤ n) ∧ sp + n ≤ (na : Int) ∧ dp + n ≤ (nb : Int) then some (pcpy S a sp b dp n) else none
def pbo (x : Int) : Option Int := if x = 0 ∨ x = 1 then some x else none
/-- division and rest as Java has them -/
def pdv (x k : Int) : Int := if 0 ≤ x then x / k else -(-x / k)
def prm (x k : Int) : Int := if 0 ≤ x then x % k else -(-x % k)
def pdiv (x y : Int) : Option Int := if y = 0 ∨ x = -2147483648 then none else some (Int.tdiv x y)
def pmod (x y : Int) : Option Int := if y = 0 ∨ x = -2147483648 then none else some (Int.tmod x y)
def pjdiv (x y : Int) : Option Int := if y = 0 ∨ x = -9223372036854775808 then none else some (Int.tdiv x y)
def pjmod (x y : Int) : Option Int := if y = 0 ∨ x = -9223372036854775808 then none else some (Int.tmod x y)
def pshl (x y : Int) : Int := (zshl (Int32.ofInt x) (Int32.ofInt y)).toInt
def pshr (x y : Int) : Int := (zshr (Int32.ofInt x) (Int32.ofInt y)).toInt
def pushr (x y : Int) : Int := (zushr (Int32.ofInt x) (Int32.ofInt y)).toInt
def pand (x y : Int) : Int := (Int32.ofInt x &&& Int32.ofInt y).toInt
def por (x y : Int) : Int := (Int32.ofInt x ||| Int32.ofInt y).toInt
def pxor (x y : Int) : Int := (Int32.ofInt x ^^^ Int32.ofInt y).toInt
def pw32 (x : Int) : Int := (Int32.ofInt x).toInt
def pi2b (x : Int) : Int := (zi2b (Int32.ofInt x)).toInt
def pnb (x : Int) : Int := (vp_nar .byte (Int32.ofInt x)).toInt
def pnz (x : Int) : Int := (vp_nar .boolean (Int32.ofInt x)).toInt
def pjshl (x y : Int) : Int := (zlshl (Int64.ofInt x) (Int32.ofInt y)).toInt
def pjshr (x y : Int) : Int := (zlshr (Int64.ofInt x) (Int32.ofInt y)).toInt
def pjor (x y : Int) : Int := (Int64.ofInt x ||| Int64.ofInt y).toInt
/-! refinement: where the one answers, the other does, alike -/
def pRf {α β : Type} (Q : α → β → Prop) (P : Option α) (F : Option β) : Prop := ∀ r, P = some r → ∃ s, F = some s ∧ Q r s
def qI (x : Int) (v : Int32) : Prop := x = v.toInt
def qJ (x : Int) (v : Int64) : Prop := x = v.toInt
def qT (x y : Option Nat) : Prop := x = y
def qU (_ _ : Unit) : Prop := True
def qP {α β γ δ : Type} (A : α → β → Prop) (B : γ → δ → Prop) (x : α × γ) (y : β × δ) : Prop := A x.1 y.1 ∧ B x.2 y.2
def qS {α β γ δ : Type} (A : α → β → Prop) (B : γ → δ → Prop) : α ⊕ γ → β ⊕ δ → Prop
  | .inl x, .inl y => A x y
  | .inr x, .inr y => B x y
  | _, _ => False
/-- a block: base, what is a long there, what may be written -/
abbrev pBl : Type := Nat × (Nat → Int → Bool) × (Nat → Int → Prop)
def pI (B : pBl) (m : zMm) : zP := fun c i => if i < 0 then 0 else if B.2.1 c i then (zJ m (B.1 + c) i.toNat).toInt else (zI m (B.1 + c) i.toNat).toInt
def pOk (B : pBl) (m0 m : zMm) : Prop := (∀ a k : Nat, (a < B.1 ∨ ¬ B.2.2 (a - B.1) (k : Int)) → zI m a k = zI m0 a k ∧ zJ m a k = zJ m0 a k) ∧ zR m = zR m0
def qM (B : pBl) (m0 : zMm) (S : zP) (m : zMm) : Prop := S = pI B m ∧ pOk B m0 m
theorem pOk.rf {B : pBl} {m : zMm} : pOk B m m := ⟨fun _ _ _ => ⟨rfl, rfl⟩, rfl⟩
theorem pOk.tr {B : pBl} {m0 m1 m2 : zMm} (h : pOk B m0 m1) (k : pOk B m1 m2) : pOk B m0 m2 := ⟨fun a j ha => ⟨((k.1 a j ha).1).trans (h.1 a j ha).1, ((k.1 a j ha).2).trans (h.1 a j ha).2⟩, k.2.trans h.2⟩
def pEx (X : Int) (e : Int32) : Prop := e = Int32.ofInt X
def pEj (X : Int) (e : Int64) : Prop := e = Int64.ofInt X
theorem px_n {X : Int} (v : Int32) (h : v = Int32.ofInt X) : pEx X v := h
theorem pj_n {X : Int} (v : Int64) (h : v = Int64.ofInt X) : pEj X v := h
theorem pj_e {X : Int} {e : Int64} (h : X = e.toInt) : pEj X e := by unfold pEj; rw [h]; exact (Int64.ofInt_toInt e).symm
theorem eI {X : Int} (v : Int32) (h : X = v.toInt) : X = v.toInt := h
theorem eJ {X : Int} (v : Int64) (h : X = v.toInt) : X = v.toInt := h
theorem px_v (v : Int32) : pEx v.toInt v := (Int32.ofInt_toInt v).symm
theorem px_e {X : Int} {e : Int32} (h : X = e.toInt) : pEx X e := by unfold pEx; rw [h]; exact (Int32.ofInt_toInt e).symm
theorem px_add {X Y : Int} {e f : Int32} (h : pEx X e) (k : pEx Y f) : pEx (X + Y) (e + f) := by unfold pEx at *; rw [Int32.ofInt_add, h, k]
theorem px_sub {X Y : Int} {e f : Int32} (h : pEx X e) (k : pEx Y f) : pEx (X - Y) (e - f) := by unfold pEx at *; rw [Int32.ofInt_sub, h, k]
theorem px_mul {X Y : Int} {e f : Int32} (h : pEx X e) (k : pEx Y f) : pEx (X * Y) (e * f) := by unfold pEx at *; rw [Int32.ofInt_mul, h, k]
theorem px_neg {X : Int} {e : Int32} (h : pEx X e) : pEx (-X) (-e) := by unfold pEx at *; rw [Int32.ofInt_neg, h]
theorem pj_v (v : Int64) : pEj v.toInt v := (Int64.ofInt_toInt v).symm
theorem pj_i (v : Int32) : pEj v.toInt v.toInt64 := by unfold pEj; rw [← Int32.toInt_toInt64]; exact (Int64.ofInt_toInt _).symm
theorem pj_add {X Y : Int} {e f : Int64} (h : pEj X e) (k : pEj Y f) : pEj (X + Y) (e + f) := by unfold pEj at *; rw [Int64.ofInt_add, h, k]
theorem pj_sub {X Y : Int} {e f : Int64} (h : pEj X e) (k : pEj Y f) : pEj (X - Y) (e - f) := by unfold pEj at *; rw [Int64.ofInt_sub, h, k]
theorem pj_mul {X Y : Int} {e f : Int64} (h : pEj X e) (k : pEj Y f) : pEj (X * Y) (e * f) := by unfold pEj at *; rw [Int64.ofInt_mul, h, k]
theorem pj_neg {X : Int} {e : Int64} (h : pEj X e) : pEj (-X) (-e) := by unfold pEj at *; rw [Int64.ofInt_neg, h]
theorem px_j {X : Int} {e : Int64} (h : pEj X e) : pEx X e.toInt32 := by unfold pEj at h; unfold pEx; rw [h, Int64.toInt32_ofInt]
theorem pEx.to {X : Int} {e : Int32} (h : pEx X e) (h1 : -2147483648 ≤ X) (h2 : X ≤ 2147483647) : e.toInt = X := by
  unfold pEx at h; rw [h]; exact Int32.toInt_ofInt_of_le (by omega) (by omega)
theorem pEj.to {X : Int} {e : Int64} (h : pEj X e) (h1 : -9223372036854775808 ≤ X) (h2 : X ≤ 9223372036854775807) : e.toInt = X := by
  unfold pEj at h; rw [h]; exact Int64.toInt_ofInt_of_le (by omega) (by omega)
theorem pe_w {X : Int} {e : Int32} (h : pEx X e) : pw32 X = e.toInt := by unfold pEx at h; unfold pw32; rw [h]
theorem pw32_n {x : Int} (h0 : -2147483648 ≤ x) (h1 : x ≤ 2147483647) : pw32 x = x := Int32.toInt_ofInt_of_le (by omega) (by omega)
theorem pc_lt {X Y : Int} {e f : Int32} (h : X = e.toInt) (k : Y = f.toInt) : X < Y ↔ e < f := by rw [h, k]; exact Int32.lt_iff_toInt_lt.symm
theorem pc_le {X Y : Int} {e f : Int32} (h : X = e.toInt) (k : Y = f.toInt) : X ≤ Y ↔ e ≤ f := by rw [h, k]; exact Int32.le_iff_toInt_le.symm
theorem pc_eq {X Y : Int} {e f : Int32} (h : X = e.toInt) (k : Y = f.toInt) : X = Y ↔ e = f := by rw [h, k]; exact Int32.toInt_inj
theorem pcj_lt {X Y : Int} {e f : Int64} (h : X = e.toInt) (k : Y = f.toInt) : X < Y ↔ e < f := by rw [h, k]; exact Int64.lt_iff_toInt_lt.symm
theorem pcj_le {X Y : Int} {e f : Int64} (h : X = e.toInt) (k : Y = f.toInt) : X ≤ Y ↔ e ≤ f := by rw [h, k]; exact Int64.le_iff_toInt_le.symm
theorem pcj_eq {X Y : Int} {e f : Int64} (h : X = e.toInt) (k : Y = f.toInt) : X = Y ↔ e = f := by rw [h, k]; exact Int64.toInt_inj
theorem pe_i64 (v : Int32) : v.toInt = v.toInt64.toInt := (Int32.toInt_toInt64 v).symm
theorem pe_shl {X Y : Int} {v : Int32} {w : Int32} (h : X = v.toInt) (k : Y = w.toInt) : pshl X Y = (zshl v w).toInt := by unfold pshl; rw [h, k, Int32.ofInt_toInt, Int32.ofInt_toInt]
theorem pe_shr {X Y : Int} {v : Int32} {w : Int32} (h : X = v.toInt) (k : Y = w.toInt) : pshr X Y = (zshr v w).toInt := by unfold pshr; rw [h, k, Int32.ofInt_toInt, Int32.ofInt_toInt]
theorem pe_ushr {X Y : Int} {v : Int32} {w : Int32} (h : X = v.toInt) (k : Y = w.toInt) : pushr X Y = (zushr v w).toInt := by unfold pushr; rw [h, k, Int32.ofInt_toInt, Int32.ofInt_toInt]
theorem pe_and {X Y : Int} {v : Int32} {w : Int32} (h : X = v.toInt) (k : Y = w.toInt) : pand X Y = (v &&& w).toInt := by unfold pand; rw [h, k, Int32.ofInt_toInt, Int32.ofInt_toInt]
theorem pe_or {X Y : Int} {v : Int32} {w : Int32} (h : X = v.toInt) (k : Y = w.toInt) : por X Y = (v ||| w).toInt := by unfold por; rw [h, k, Int32.ofInt_toInt, Int32.ofInt_toInt]
theorem pe_xor {X Y : Int} {v : Int32} {w : Int32} (h : X = v.toInt) (k : Y = w.toInt) : pxor X Y = (v ^^^ w).toInt := by unfold pxor; rw [h, k, Int32.ofInt_toInt, Int32.ofInt_toInt]
theorem pe_lshl {X Y : Int} {v : Int64} {w : Int32} (h : X = v.toInt) (k : Y = w.toInt) : pjshl X Y = (zlshl v w).toInt := by unfold pjshl; rw [h, k, Int32.ofInt_toInt, Int64.ofInt_toInt]
theorem pe_lshr {X Y : Int} {v : Int64} {w : Int32} (h : X = v.toInt) (k : Y = w.toInt) : pjshr X Y = (zlshr v w).toInt := by unfold pjshr; rw [h, k, Int32.ofInt_toInt, Int64.ofInt_toInt]
theorem pe_lor {X Y : Int} {v : Int64} {w : Int64} (h : X = v.toInt) (k : Y = w.toInt) : pjor X Y = (v ||| w).toInt := by unfold pjor; rw [h, k, Int64.ofInt_toInt, Int64.ofInt_toInt]
theorem pe_i2b {X : Int} {v : Int32} (h : X = v.toInt) : pi2b X = (zi2b v).toInt := by unfold pi2b; rw [h, Int32.ofInt_toInt]
theorem pe_nb {X : Int} {v : Int32} (h : X = v.toInt) : pnb X = (vp_nar .byte v).toInt := by unfold pnb; rw [h, Int32.ofInt_toInt]
theorem pe_nz {X : Int} {v : Int32} (h : X = v.toInt) : pnz X = (vp_nar .boolean v).toInt := by unfold pnz; rw [h, Int32.ofInt_toInt]
theorem pdv_t {x k : Int} (hk : 0 < k) : pdv x k = Int.tdiv x k := by
  unfold pdv
  by_cases h : 0 ≤ x
  · rw [if_pos h, Int.tdiv_eq_ediv_of_nonneg h]
  · rw [if_neg h]
    have h2 : 0 ≤ -x := by omega
    rw [← Int.tdiv_eq_ediv_of_nonneg h2, Int.neg_tdiv, Int.neg_neg]
theorem prm_t {x k : Int} (hk : 0 < k) : prm x k = Int.tmod x k := by
  unfold prm
  by_cases h : 0 ≤ x
  · rw [if_pos h, Int.tmod_eq_emod_of_nonneg h]
  · rw [if_neg h]
    have h2 : 0 ≤ -x := by omega
    rw [← Int.tmod_eq_emod_of_nonneg h2, Int.neg_tmod, Int.neg_neg]
theorem pt_div {v w : Int32} (h : v.toInt ≠ -2147483648 ∨ w.toInt ≠ -1) : (v / w).toInt = Int.tdiv v.toInt w.toInt := by
  rcases h with h | h
  · exact Int32.toInt_div_of_ne_left _ _ (fun e => h (by rw [e]; decide))
  · exact Int32.toInt_div_of_ne_right _ _ (fun e => h (by rw [e]; decide))
theorem pt_remX {v w : Int32} (h : v.toInt ≠ -2147483648 ∨ w.toInt ≠ -1) (h1 : -2147483648 ≤ Int.tmod v.toInt w.toInt) (h2 : Int.tmod v.toInt w.toInt ≤ 2147483647) : (zrem v w).toInt = Int.tmod v.toInt w.toInt := by
  have e1 : pEx (v.toInt - Int.tdiv v.toInt w.toInt * w.toInt) (zrem v w) := px_sub (px_v _) (px_mul (px_e (pt_div h).symm) (px_v _))
  have e2 : v.toInt - Int.tdiv v.toInt w.toInt * w.toInt = Int.tmod v.toInt w.toInt := by
    have := Int.tmod_add_tdiv_mul v.toInt w.toInt
    omega
  rw [e2] at e1
  exact e1.to h1 h2
theorem pt_rem {v w : Int32} (h : v.toInt ≠ -2147483648) : (zrem v w).toInt = Int.tmod v.toInt w.toInt := by
  have h3 := Int.natAbs_tmod v.toInt w.toInt
  have h4 := Nat.mod_le v.toInt.natAbs w.toInt.natAbs
  have h5 := v.le_toInt
  have h6 := v.toInt_lt
  exact pt_remX (.inl h) (by omega) (by omega)
theorem pt_remC {v w : Int32} (hw : 0 < w.toInt) : (zrem v w).toInt = Int.tmod v.toInt w.toInt := by
  have h3 := Int.tmod_lt_of_pos v.toInt hw
  have h4 := Int.lt_tmod_of_pos v.toInt hw
  have h5 := w.le_toInt
  have h6 := w.toInt_lt
  exact pt_remX (.inr (by omega)) (by omega) (by omega)
theorem ptj_div {v w : Int64} (h : v.toInt ≠ -9223372036854775808 ∨ w.toInt ≠ -1) : (v / w).toInt = Int.tdiv v.toInt w.toInt := by
  rcases h with h | h
  · exact Int64.toInt_div_of_ne_left _ _ (fun e => h (by rw [e]; decide))
  · exact Int64.toInt_div_of_ne_right _ _ (fun e => h (by rw [e]; decide))
theorem ptj_remX {v w : Int64} (h : v.toInt ≠ -9223372036854775808 ∨ w.toInt ≠ -1) (h1 : -9223372036854775808 ≤ Int.tmod v.toInt w.toInt) (h2 : Int.tmod v.toInt w.toInt ≤ 9223372036854775807) : (zlrem v w).toInt = Int.tmod v.toInt w.toInt := by
  have e0 : pEj (Int.tdiv v.toInt w.toInt) (v / w) := by rw [← ptj_div h]; exact pj_v _
  have e1 : pEj (v.toInt - Int.tdiv v.toInt w.toInt * w.toInt) (zlrem v w) := pj_sub (pj_v _) (pj_mul e0 (pj_v _))
  have e2 : v.toInt - Int.tdiv v.toInt w.toInt * w.toInt = Int.tmod v.toInt w.toInt := by
    have := Int.tmod_add_tdiv_mul v.toInt w.toInt
    omega
  rw [e2] at e1
  exact e1.to h1 h2
theorem ptj_rem {v w : Int64} (h : v.toInt ≠ -9223372036854775808) : (zlrem v w).toInt = Int.tmod v.toInt w.toInt := by
  have h3 := Int.natAbs_tmod v.toInt w.toInt
  have h4 := Nat.mod_le v.toInt.natAbs w.toInt.natAbs
  have h5 := v.le_toInt
  have h6 := v.toInt_lt
  exact ptj_remX (.inl h) (by omega) (by omega)
theorem ptj_remC {v w : Int64} (hw : 0 < w.toInt) : (zlrem v w).toInt = Int.tmod v.toInt w.toInt := by
  have h3 := Int.tmod_lt_of_pos v.toInt hw
  have h4 := Int.lt_tmod_of_pos v.toInt hw
  have h5 := w.le_toInt
  have h6 := w.toInt_lt
  exact ptj_remX (.inr (by omega)) (by omega) (by omega)
/-- division and rest by a number that is written down -/
theorem pe_dv {x : Int} {v w : Int32} {k : Int} (hk : 0 < k) (hx : x = v.toInt) (h : k = w.toInt) : pdv x k = (v / w).toInt := by
  rw [pdv_t hk, h, hx]; exact (pt_div (.inr (by omega))).symm
theorem pe_rm {x : Int} {v w : Int32} {k : Int} (hk : 0 < k) (hx : x = v.toInt) (h : k = w.toInt) : prm x k = (zrem v w).toInt := by
  rw [prm_t hk, h, hx]; exact (pt_remC (by omega)).symm
theorem pe_ldv {x : Int} {v w : Int64} {k : Int} (hk : 0 < k) (hx : x = v.toInt) (h : k = w.toInt) : pdv x k = (v / w).toInt := by
  rw [pdv_t hk, h, hx]; exact (ptj_div (.inr (by omega))).symm
theorem pe_lrm {x : Int} {v w : Int64} {k : Int} (hk : 0 < k) (hx : x = v.toInt) (h : k = w.toInt) : prm x k = (zlrem v w).toInt := by
  rw [prm_t hk, h, hx]; exact (ptj_remC (by omega)).symm
/-! the rules -/
theorem r_some {α β : Type} {Q : α → β → Prop} {r : α} {s : β} (h : Q r s) : pRf Q (some r) (some s) := by
  intro r' e; cases e; exact ⟨s, rfl, h⟩
theorem r_none {α β : Type} {Q : α → β → Prop} {F : Option β} : pRf Q none F := by intro r e; cases e
theorem r_bind {α β γ δ : Type} {A : α → β → Prop} {Q : γ → δ → Prop} {P : Option α} {F : Option β} {K : α → Option γ} {K' : β → Option δ} (h : pRf A P F) (k : ∀ x y, A x y → pRf Q (K x) (K' y)) : pRf Q (P.bind K) (F.bind K') := by
  intro r e
  cases P with
  | none => cases e
  | some x =>
    obtain ⟨y, hy, ha⟩ := h x rfl
    rw [hy]
    exact k x y ha r e
theorem r_ex {ρ ρ' σ σ' : Type} {Q : ρ → ρ' → Prop} {R : σ → σ' → Prop} {P : Option (ρ ⊕ σ)} {F : Option (ρ' ⊕ σ')} {K : σ → Option ρ} {K' : σ' → Option ρ'} (h : pRf (qS Q R) P F) (k : ∀ x y, R x y → pRf Q (K x) (K' y)) : pRf Q (zEx P K) (zEx F K') := by
  unfold zEx
  refine r_bind h (fun x y hxy => ?_)
  cases x with
  | inl x => cases y with
    | inl y => exact r_some hxy
    | inr y => exact hxy.elim
  | inr x => cases y with
    | inl y => exact hxy.elim
    | inr y => exact k x y hxy
theorem r_loop {ρ ρ' σ σ' : Type} {Q : ρ → ρ' → Prop} {R : σ → σ' → Prop} {bp : σ → Option (ρ ⊕ σ)} {bf : σ' → Option (ρ' ⊕ σ')} (h : ∀ s t, R s t → pRf (qS Q R) (bp s) (bf t)) : ∀ (n : Nat) (s : σ) (t : σ'), R s t → pRf Q (zLoop bp n s) (zLoop bf n t)
  | 0, _, _, _ => r_none
  | n + 1, s, t, hr => r_ex (h s t hr) (fun x y hxy => r_loop h n x y hxy)
theorem r_ite {α β : Type} {Q : α → β → Prop} {c d : Prop} [Decidable c] [Decidable d] {a b : Option α} {a' b' : Option β} (h : c ↔ d) (ha : pRf Q a a') (hb : pRf Q b b') : pRf Q (if c then a else b) (if d then a' else b') := by
  by_cases hc : c
  · rw [if_pos hc, if_pos (h.mp hc)]; exact ha
  · rw [if_neg hc, if_neg (fun x => hc (h.mpr x))]; exact hb
section
variable {α β : Type} {Q : α → β → Prop} {K : Int → Option α} {g : zGd} {m m0 : zMm} {B : pBl} {c n t ci k : Nat} {i x : Int}
theorem r_lt32 {K' : Int32 → Option β} {e : Int32} {X : Int} (h : pEx X e) (kk : ∀ v : Int32, pRf Q (K v.toInt) (K' v)) : pRf Q (p32 X K) (zlt e K') := by
  intro r er
  unfold p32 at er
  by_cases hc : -2147483648 ≤ X ∧ X ≤ 2147483647
  · rw [if_pos hc, ← h.to hc.1 hc.2] at er
    exact kk e r er
  · rw [if_neg hc] at er; cases er
theorem r_lt64 {K' : Int64 → Option β} {e : Int64} {X : Int} (h : pEj X e) (kk : ∀ v : Int64, pRf Q (K v.toInt) (K' v)) : pRf Q (p64 X K) (zlt e K') := by
  intro r er
  unfold p64 at er
  by_cases hc : -9223372036854775808 ≤ X ∧ X ≤ 9223372036854775807
  · rw [if_pos hc, ← h.to hc.1 hc.2] at er
    exact kk e r er
  · rw [if_neg hc] at er; cases er
theorem r_p32 {F : Option β} {e : Int32} {X : Int} (h : pEx X e) (kk : pRf Q (K e.toInt) F) : pRf Q (p32 X K) F := by
  intro r er
  unfold p32 at er
  by_cases hc : -2147483648 ≤ X ∧ X ≤ 2147483647
  · rw [if_pos hc, ← h.to hc.1 hc.2] at er
    exact kk r er
  · rw [if_neg hc] at er; cases er
theorem r_p64 {F : Option β} {e : Int64} {X : Int} (h : pEj X e) (kk : pRf Q (K e.toInt) F) : pRf Q (p64 X K) F := by
  intro r er
  unfold p64 at er
  by_cases hc : -9223372036854775808 ≤ X ∧ X ≤ 9223372036854775807
  · rw [if_pos hc, ← h.to hc.1 hc.2] at er
    exact kk r er
  · rw [if_neg hc] at er; cases er
theorem r_x32 {F : Option β} {e : Int32} {X : Int} (h : X = e.toInt) (kk : pRf Q (K e.toInt) F) : pRf Q (zlt X K) F := by rw [h]; exact kk
theorem r_x64 {F : Option β} {e : Int64} {X : Int} (h : X = e.toInt) (kk : pRf Q (K e.toInt) F) : pRf Q (zlt X K) F := by rw [h]; exact kk
theorem r_ltx {K' : Int32 → Option β} {e : Int32} {X : Int} (h : X = e.toInt) (kk : ∀ v : Int32, pRf Q (K v.toInt) (K' v)) : pRf Q (zlt X K) (zlt e K') := by rw [h]; exact kk e
theorem r_ltxj {K' : Int64 → Option β} {e : Int64} {X : Int} (h : X = e.toInt) (kk : ∀ v : Int64, pRf Q (K v.toInt) (K' v)) : pRf Q (zlt X K) (zlt e K') := by rw [h]; exact kk e
theorem r_rc {P : Option α} {F : Option β} (hk : (zK g (B.1 + c)).1 = ci + 1) (h : pRf Q P F) : pRf Q P (zrc g ci (some (B.1 + c)) F) := by
  unfold zrc
  show pRf Q P (if (zK g (B.1 + c)).1 = ci + 1 then F else none)
  rw [if_pos hk]; exact h
theorem pI_i (h0 : 0 ≤ i) (hj : B.2.1 c i = false) : pI B m c i = (zI m (B.1 + c) i.toNat).toInt := by
  unfold pI; rw [if_neg (by omega), hj]; rfl
theorem pI_j (h0 : 0 ≤ i) (hj : B.2.1 c i = true) : pI B m c i = (zJ m (B.1 + c) i.toNat).toInt := by
  unfold pI; rw [if_neg (by omega), hj]; rfl
theorem pI_sI {v : Int32} (h0 : 0 ≤ i) (hj : B.2.1 c i = false) : pI B (zsI m (B.1 + c) i.toNat v) = pup (pI B m) c i v.toInt := by
  funext c' i'
  unfold pI pup
  dsimp only
  by_cases hn : i' < 0
  · rw [if_pos hn, if_neg (by omega), if_pos hn]
  · rw [if_neg hn]
    by_cases hq : c' = c ∧ i' = i
    · rw [if_pos hq, hq.1, hq.2, hj, zsI_I, zup_s]; rfl
    · rw [if_neg hq, if_neg hn, zsI_J, zsI_I]
      have : zup (zI m) (B.1 + c) i.toNat v (B.1 + c') i'.toNat = zI m (B.1 + c') i'.toNat := by
        by_cases hc : c' = c
        · exact zup_k _ _ (by intro e; exact hq ⟨hc, by omega⟩)
        · exact zup_a _ _ (by omega)
      rw [this]
theorem pI_sJ {v : Int64} (h0 : 0 ≤ i) (hj : B.2.1 c i = true) : pI B (zsJ m (B.1 + c) i.toNat v) = pup (pI B m) c i v.toInt := by
  funext c' i'
  unfold pI pup
  dsimp only
  by_cases hn : i' < 0
  · rw [if_pos hn, if_neg (by omega), if_pos hn]
  · rw [if_neg hn]
    by_cases hq : c' = c ∧ i' = i
    · rw [if_pos hq, hq.1, hq.2, hj, zsJ_J, zup_s]; rfl
    · rw [if_neg hq, if_neg hn, zsJ_J, zsJ_I]
      have : zup (zJ m) (B.1 + c) i.toNat v (B.1 + c') i'.toNat = zJ m (B.1 + c') i'.toNat := by
        by_cases hc : c' = c
        · exact zup_k _ _ (by intro e; exact hq ⟨hc, by omega⟩)
        · exact zup_a _ _ (by omega)
      rw [this]
theorem pOk_ne {a k j : Nat} (hc : B.2.2 c (j : Int)) (ha : a < B.1 ∨ ¬ B.2.2 (a - B.1) (k : Int)) : ¬ (a = B.1 + c ∧ k = j) := fun e => by
  obtain ⟨e1, e2⟩ := e
  subst e1
  subst e2
  rcases ha with y | y
  · omega
  · rw [Nat.add_sub_cancel_left] at y; exact y hc
theorem pOk.sI {v : Int32} {j : Nat} (h : pOk B m0 m) (hc : B.2.2 c (j : Int)) : pOk B m0 (zsI m (B.1 + c) j v) := by
  refine ⟨fun a k ha => ⟨?_, (h.1 a k ha).2⟩, h.2⟩
  have e : zI (zsI m (B.1 + c) j v) a k = zI m a k := if_neg (pOk_ne hc ha)
  rw [e]; exact (h.1 a k ha).1
theorem pOk.sJ {v : Int64} {j : Nat} (h : pOk B m0 m) (hc : B.2.2 c (j : Int)) : pOk B m0 (zsJ m (B.1 + c) j v) := by
  refine ⟨fun a k ha => ⟨(h.1 a k ha).1, ?_⟩, h.2⟩
  have e : zJ (zsJ m (B.1 + c) j v) a k = zJ m a k := if_neg (pOk_ne hc ha)
  rw [e]; exact (h.1 a k ha).2
theorem pOk_j {i : Int} {j : Int32} (h0 : 0 ≤ i) (hi : i = j.toInt) (hc : B.2.2 c i) : B.2.2 c ((j.toNatClampNeg : Nat) : Int) := by
  have e : ((j.toNatClampNeg : Nat) : Int) = i := by
    show ((j.toInt.toNat : Nat) : Int) = i
    omega
  rw [e]; exact hc
theorem r_gi {K' : Int32 → Option β} (hk : (zK g (B.1 + c)).1 = ci + 1) (hi : i = (k : Int)) (hj : B.2.1 c i = false) (kk : ∀ v : Int32, pRf Q (K v.toInt) (K' v)) : pRf Q (zlt (pI B m c i) K) ((zgi g m ci k (some (B.1 + c))).bind K') := by
  have e : zgi g m ci k (some (B.1 + c)) = some (zI m (B.1 + c) k) := if_pos hk
  rw [e, pI_i (by omega) hj, hi]; exact kk _
theorem r_gj {K' : Int64 → Option β} (hk : (zK g (B.1 + c)).1 = ci + 1) (hi : i = (k : Int)) (hj : B.2.1 c i = true) (kk : ∀ v : Int64, pRf Q (K v.toInt) (K' v)) : pRf Q (zlt (pI B m c i) K) ((zgj g m ci k (some (B.1 + c))).bind K') := by
  have e : zgj g m ci k (some (B.1 + c)) = some (zJ m (B.1 + c) k) := if_pos hk
  rw [e, pI_j (by omega) hj, hi]; exact kk _
theorem r_gr {P : Option α} {K' : Option Nat → Option β} {d : Nat} (hm : pOk B m0 m) (hk : (zK g (B.1 + c)).1 = ci + 1) (hr : zR m0 (B.1 + c) k = some (B.1 + d)) (kk : pRf Q P (K' (some (B.1 + d)))) : pRf Q P ((zgr g m ci k (some (B.1 + c))).bind K') := by
  have e : zgr g m ci k (some (B.1 + c)) = some (some (B.1 + d)) := by
    refine (if_pos hk).trans ?_
    rw [hm.2, hr]
  rw [e]; exact kk
theorem r_pi {K : zP → Option α} {K' : zMm → Option β} {v : Int32} (hm : pOk B m0 m) (hk : (zK g (B.1 + c)).1 = ci + 1) (hb : zB g ≤ B.1) (hc : B.2.2 c i) (hi : i = (k : Int)) (hj : B.2.1 c i = false) (hx : x = v.toInt) (kk : ∀ m', pOk B m0 m' → pRf Q (K (pI B m')) (K' m')) : pRf Q (zlt (pup (pI B m) c i x) K) ((zpi g m ci k (some (B.1 + c)) v).bind K') := by
  have e : zpi g m ci k (some (B.1 + c)) v = some (zsI m (B.1 + c) k v) := if_pos ⟨hk, by omega⟩
  have e2 := pI_sI (m := m) (v := v) (by omega : 0 ≤ i) hj
  rw [hi] at e2
  rw [e, hx, hi]
  show pRf Q (K (pup (pI B m) c k v.toInt)) (K' (zsI m (B.1 + c) k v))
  rw [← e2]; exact kk _ (hm.sI (hi ▸ hc))
theorem r_pz {K : zP → Option α} {K' : zMm → Option β} {v : Int32} (hv : v = 0 ∨ v = 1) (hm : pOk B m0 m) (hk : (zK g (B.1 + c)).1 = ci + 1) (hb : zB g ≤ B.1) (hc : B.2.2 c i) (hi : i = (k : Int)) (hj : B.2.1 c i = false) (hx : x = v.toInt) (kk : ∀ m', pOk B m0 m' → pRf Q (K (pI B m')) (K' m')) : pRf Q (zlt (pup (pI B m) c i x) K) ((zpz g m ci k (some (B.1 + c)) v).bind K') := by
  have e : zpz g m ci k (some (B.1 + c)) v = some (zsI m (B.1 + c) k v) := if_pos ⟨⟨hk, by omega⟩, hv⟩
  have e2 := pI_sI (m := m) (v := v) (by omega : 0 ≤ i) hj
  rw [hi] at e2
  rw [e, hx, hi]
  show pRf Q (K (pup (pI B m) c k v.toInt)) (K' (zsI m (B.1 + c) k v))
  rw [← e2]; exact kk _ (hm.sI (hi ▸ hc))
theorem r_pj {K : zP → Option α} {K' : zMm → Option β} {v : Int64} (hm : pOk B m0 m) (hk : (zK g (B.1 + c)).1 = ci + 1) (hb : zB g ≤ B.1) (hc : B.2.2 c i) (hi : i = (k : Int)) (hj : B.2.1 c i = true) (hx : x = v.toInt) (kk : ∀ m', pOk B m0 m' → pRf Q (K (pI B m')) (K' m')) : pRf Q (zlt (pup (pI B m) c i x) K) ((zpj g m ci k (some (B.1 + c)) v).bind K') := by
  have e : zpj g m ci k (some (B.1 + c)) v = some (zsJ m (B.1 + c) k v) := if_pos ⟨hk, by omega⟩
  have e2 := pI_sJ (m := m) (v := v) (by omega : 0 ≤ i) hj
  rw [hi] at e2
  rw [e, hx, hi]
  show pRf Q (K (pup (pI B m) c k v.toInt)) (K' (zsJ m (B.1 + c) k v))
  rw [← e2]; exact kk _ (hm.sJ (hi ▸ hc))
theorem p_ix {j : Int32} (h0 : 0 ≤ j.toInt) (h1 : j.toInt < (n : Int)) : ¬ (j < 0 ∨ n ≤ j.toNatClampNeg) := by
  intro h
  rcases h with h | h
  · have := Int32.lt_iff_toInt_lt.mp h
    have e : (0 : Int32).toInt = 0 := by decide
    omega
  · have e : j.toNatClampNeg = j.toInt.toNat := rfl
    omega
theorem r_ald {K' : Int32 → Option β} {j : Int32} (hk : zK g (B.1 + c) = (t, n)) (hi : i = j.toInt) (hj : ∀ i, B.2.1 c i = false) (kk : ∀ v : Int32, pRf Q (K v.toInt) (K' v)) : pRf Q ((pald (pI B m) c n i).bind K) ((zald t g m (some (B.1 + c)) j).bind K') := by
  intro r er
  unfold pald at er
  by_cases h : 0 ≤ i ∧ i < (n : Int)
  · rw [if_pos h] at er
    have e : zald t g m (some (B.1 + c)) j = some (zI m (B.1 + c) j.toNatClampNeg) := by
      refine if_pos ⟨by rw [hk], ?_⟩
      rw [hk]; exact p_ix (by omega) (by omega)
    rw [e]
    have er : K (pI B m c i) = some r := er
    rw [pI_i h.1 (hj i), hi] at er
    exact kk _ r er
  · rw [if_neg h] at er; cases er
theorem r_aldj {K' : Int64 → Option β} {j : Int32} (hk : zK g (B.1 + c) = (104, n)) (hi : i = j.toInt) (hj : ∀ i, B.2.1 c i = true) (kk : ∀ v : Int64, pRf Q (K v.toInt) (K' v)) : pRf Q ((pald (pI B m) c n i).bind K) ((zaldj g m (some (B.1 + c)) j).bind K') := by
  intro r er
  unfold pald at er
  by_cases h : 0 ≤ i ∧ i < (n : Int)
  · rw [if_pos h] at er
    have e : zaldj g m (some (B.1 + c)) j = some (zJ m (B.1 + c) j.toNatClampNeg) := by
      refine if_pos ⟨by rw [hk], ?_⟩
      rw [hk]; exact p_ix (by omega) (by omega)
    rw [e]
    have er : K (pI B m c i) = some r := er
    rw [pI_j h.1 (hj i), hi] at er
    exact kk _ r er
  · rw [if_neg h] at er; cases er
theorem r_ast {K : zP → Option α} {K' : zMm → Option β} {j v : Int32} (hm : pOk B m0 m) (hk : zK g (B.1 + c) = (t, n)) (hb : zB g ≤ B.1) (hc : B.2.2 c i) (hi : i = j.toInt) (hx : x = v.toInt) (hj : ∀ i, B.2.1 c i = false) (kk : ∀ m', pOk B m0 m' → pRf Q (K (pI B m')) (K' m')) : pRf Q ((past (pI B m) c n i x).bind K) ((zast t g m (some (B.1 + c)) j v).bind K') := by
  intro r er
  unfold past at er
  by_cases h : 0 ≤ i ∧ i < (n : Int)
  · rw [if_pos h] at er
    have e : zast t g m (some (B.1 + c)) j v = some (zsI m (B.1 + c) j.toNatClampNeg v) := by
      refine if_pos ⟨⟨by rw [hk], by omega⟩, ?_⟩
      rw [hk]; exact p_ix (by omega) (by omega)
    rw [e]
    have er : K (pup (pI B m) c i x) = some r := er
    have e2 := pI_sI (m := m) (v := v) h.1 (hj i)
    rw [hx, ← e2] at er
    rw [hi] at er
    exact kk _ (hm.sI (pOk_j h.1 hi hc)) r er
  · rw [if_neg h] at er; cases er
theorem r_astj {K : zP → Option α} {K' : zMm → Option β} {j : Int32} {v : Int64} (hm : pOk B m0 m) (hk : zK g (B.1 + c) = (104, n)) (hb : zB g ≤ B.1) (hc : B.2.2 c i) (hi : i = j.toInt) (hx : x = v.toInt) (hj : ∀ i, B.2.1 c i = true) (kk : ∀ m', pOk B m0 m' → pRf Q (K (pI B m')) (K' m')) : pRf Q ((past (pI B m) c n i x).bind K) ((zastj g m (some (B.1 + c)) j v).bind K') := by
  intro r er
  unfold past at er
  by_cases h : 0 ≤ i ∧ i < (n : Int)
  · rw [if_pos h] at er
    have e : zastj g m (some (B.1 + c)) j v = some (zsJ m (B.1 + c) j.toNatClampNeg v) := by
      refine if_pos ⟨⟨by rw [hk], by omega⟩, ?_⟩
      rw [hk]; exact p_ix (by omega) (by omega)
    rw [e]
    have er : K (pup (pI B m) c i x) = some r := er
    have e2 := pI_sJ (m := m) (v := v) h.1 (hj i)
    rw [hx, ← e2] at er
    rw [hi] at er
    exact kk _ (hm.sJ (pOk_j h.1 hi hc)) r er
  · rw [if_neg h] at er; cases er
theorem r_aldr {K : Nat → Option α} {K' : Option Nat → Option β} {j : Int32} {d : Nat} (hm : pOk B m0 m) (hk : zK g (B.1 + c) = (t, n)) (hi : i = j.toInt) (hr : ∀ q, q < n → zR m0 (B.1 + c) q = some (B.1 + (d + q))) (kk : ∀ q, q < n → pRf Q (K q) (K' (some (B.1 + (d + q))))) : pRf Q ((pidx n i).bind K) ((zaldr t g m (some (B.1 + c)) j).bind K') := by
  intro r er
  unfold pidx at er
  by_cases h : 0 ≤ i ∧ i < (n : Int)
  · rw [if_pos h] at er
    have e : zaldr t g m (some (B.1 + c)) j = some (zR m (B.1 + c) j.toNatClampNeg) := by
      refine if_pos ⟨by rw [hk], ?_⟩
      rw [hk]; exact p_ix (by omega) (by omega)
    have e3 : j.toNatClampNeg = i.toNat := by rw [hi]; rfl
    have hq : i.toNat < n := by omega
    rw [e, hm.2, e3, hr _ hq]
    exact kk _ hq r er
  · rw [if_neg h] at er; cases er
theorem r_aldt {K : Option Nat → Option α} {K' : Option Nat → Option β} {T : Int → Option Nat} {j : Int32} (hm : pOk B m0 m) (hk : zK g (B.1 + c) = (t, n)) (hi : i = j.toInt) (hr : ∀ q : Int, 0 ≤ q → q < (n : Int) → T q = zR m0 (B.1 + c) q.toNat) (kk : ∀ o, pRf Q (K o) (K' o)) : pRf Q ((if 0 ≤ i ∧ i < (n : Int) then some (T i) else none).bind K) ((zaldr t g m (some (B.1 + c)) j).bind K') := by
  intro r er
  by_cases h : 0 ≤ i ∧ i < (n : Int)
  · rw [if_pos h] at er
    have e : zaldr t g m (some (B.1 + c)) j = some (zR m (B.1 + c) j.toNatClampNeg) := by
      refine if_pos ⟨by rw [hk], ?_⟩
      rw [hk]; exact p_ix (by omega) (by omega)
    have e3 : j.toNatClampNeg = i.toNat := by rw [hi]; rfl
    rw [e, hm.2, e3, ← hr i h.1 h.2]
    exact kk _ r er
  · rw [if_neg h] at er; cases er
theorem r_alen {K' : Int32 → Option β} (hk : zK g (B.1 + c) = (t, n)) (ht : 101 ≤ t ∧ t ≤ 110) (hn : n ≤ 2147483647) (kk : ∀ v : Int32, pRf Q (K v.toInt) (K' v)) : pRf Q (zlt (n : Int) K) ((zalen g (some (B.1 + c))).bind K') := by
  have e : zalen g (some (B.1 + c)) = some (Int32.ofNat n) := by
    refine (if_pos (by rw [hk]; exact ht)).trans ?_
    rw [hk]
  have e2 : (Int32.ofNat n).toInt = (n : Int) := Int32.toInt_ofNat_of_lt (by omega)
  rw [e, ← e2]; exact kk _
theorem r_cpi {K : zP → Option α} {K' : zMm → Option β} {a b na nb : Nat} {sp dp w : Int} {vs vd vw : Int32} (hm : pOk B m0 m) (ha : zK g (B.1 + a) = (101, na)) (hbk : zK g (B.1 + b) = (101, nb)) (hb : zB g ≤ B.1) (hc : ∀ i, B.2.2 b i) (h1 : sp = vs.toInt) (h2 : dp = vd.toInt) (h3 : w = vw.toInt) (hj : ∀ i, B.2.1 a i = false) (hj2 : ∀ i, B.2.1 b i = false) (kk : ∀ m', pOk B m0 m' → pRf Q (K (pI B m')) (K' m')) : pRf Q ((pcp (pI B m) a na sp b nb dp w).bind K) ((zcpi g m (some (B.1 + a)) vs (some (B.1 + b)) vd vw).bind K') := by
  intro r er
  unfold pcp at er
  by_cases h : (0 ≤ sp ∧ 0 ≤ dp ∧ 0 ≤ w) ∧ sp + w ≤ (na : Int) ∧ dp + w ≤ (nb : Int)
  · rw [if_pos h] at er
    have n0 : (0 : Int32).toInt = 0 := by decide
    have e4 : vs.toNatClampNeg = sp.toNat := by rw [h1]; rfl
    have e5 : vd.toNatClampNeg = dp.toNat := by rw [h2]; rfl
    have e6 : vw.toNatClampNeg = w.toNat := by rw [h3]; rfl
    have e : zcpi g m (some (B.1 + a)) vs (some (B.1 + b)) vd vw = some (zrow m.1 (B.1 + b) (va_cpy (zI m (B.1 + a)) (zI m (B.1 + b)) vs.toNatClampNeg vd.toNatClampNeg vw.toNatClampNeg), m.2.1, m.2.2) := by
      refine if_pos ⟨⟨by rw [ha], by rw [hbk]⟩, ⟨by omega, ?_, ?_, ?_⟩, ?_, ?_⟩
      · intro q; have := Int32.lt_iff_toInt_lt.mp q; omega
      · intro q; have := Int32.lt_iff_toInt_lt.mp q; omega
      · intro q; have := Int32.lt_iff_toInt_lt.mp q; omega
      · rw [ha, e4, e6]; show sp.toNat + w.toNat ≤ na; omega
      · rw [hbk, e5, e6]; show dp.toNat + w.toNat ≤ nb; omega
    rw [e]
    have er : K (pcpy (pI B m) a sp b dp w) = some r := er
    have e7 : pcpy (pI B m) a sp b dp w = pI B (zrow m.1 (B.1 + b) (va_cpy (zI m (B.1 + a)) (zI m (B.1 + b)) vs.toNatClampNeg vd.toNatClampNeg vw.toNatClampNeg), m.2.1, m.2.2) := by
      funext c' i'
      rw [e4, e5, e6]
      unfold pcpy
      by_cases hq : c' = b ∧ dp ≤ i' ∧ i' < dp + w
      · rw [if_pos hq, hq.1, pI_i (by omega) (hj _), pI_i (by omega) (hj2 _)]
        show (zI m (B.1 + a) (sp + (i' - dp)).toNat).toInt = (zrow m.1 (B.1 + b) _ (B.1 + b) i'.toNat).toInt
        have : zrow m.1 (B.1 + b) (va_cpy (zI m (B.1 + a)) (zI m (B.1 + b)) sp.toNat dp.toNat w.toNat) (B.1 + b) i'.toNat = zI m (B.1 + a) (sp + (i' - dp)).toNat := by
          unfold zrow va_cpy
          rw [if_pos rfl, if_pos (by omega)]
          congr 1; omega
        rw [this]
      · rw [if_neg hq]
        unfold pI
        by_cases hn : i' < 0
        · rw [if_pos hn, if_pos hn]
        · rw [if_neg hn, if_neg hn]
          have : zrow m.1 (B.1 + b) (va_cpy (zI m (B.1 + a)) (zI m (B.1 + b)) sp.toNat dp.toNat w.toNat) (B.1 + c') i'.toNat = zI m (B.1 + c') i'.toNat := by
            unfold zrow va_cpy
            by_cases hcc : c' = b
            · rw [if_pos (by omega), if_neg (by omega), hcc]
            · rw [if_neg (by omega)]; rfl
          show (if B.2.1 c' i' then (zJ m (B.1 + c') i'.toNat).toInt else _) = (if B.2.1 c' i' then (zJ m (B.1 + c') i'.toNat).toInt else (zrow m.1 (B.1 + b) _ (B.1 + c') i'.toNat).toInt)
          rw [this]
    rw [e7] at er
    refine kk (zrow m.1 (B.1 + b) (va_cpy (zI m (B.1 + a)) (zI m (B.1 + b)) vs.toNatClampNeg vd.toNatClampNeg vw.toNatClampNeg), m.2.1, m.2.2) ⟨fun q j hq => ⟨?_, (hm.1 q j hq).2⟩, hm.2⟩ r er
    have hne : q ≠ B.1 + b := fun e => by
      subst e
      rcases hq with y | y
      · omega
      · rw [Nat.add_sub_cancel_left] at y; exact y (hc _)
    have : zrow m.1 (B.1 + b) (va_cpy (zI m (B.1 + a)) (zI m (B.1 + b)) vs.toNatClampNeg vd.toNatClampNeg vw.toNatClampNeg) q j = zI m q j := by
      unfold zrow
      rw [if_neg hne]; rfl
    exact this.trans (hm.1 q j hq).1
  · rw [if_neg h] at er; cases er
theorem r_bo {K' : Int32 → Option β} {v : Int32} (hx : x = v.toInt) (kk : ∀ v : Int32, pRf Q (K v.toInt) (K' v)) : pRf Q ((pbo x).bind K) ((zbo v).bind K') := by
  intro r er
  unfold pbo at er
  by_cases h : x = 0 ∨ x = 1
  · rw [if_pos h] at er
    have e : zbo v = some v := by
      refine if_pos ?_
      rcases h with h | h
      · exact Or.inl (Int32.toInt_inj.mp (by rw [← hx, h]; decide))
      · exact Or.inr (Int32.toInt_inj.mp (by rw [← hx, h]; decide))
    rw [e]
    rw [hx] at er
    exact kk v r er
  · rw [if_neg h] at er; cases er
theorem r_mod {K' : Int32 → Option β} {y : Int} {v w : Int32} (hx : x = v.toInt) (hy : y = w.toInt) (kk : ∀ v : Int32, pRf Q (K v.toInt) (K' v)) : pRf Q ((pmod x y).bind K) ((zmod v w).bind K') := by
  intro r er
  unfold pmod at er
  by_cases h : y = 0 ∨ x = -2147483648
  · rw [if_pos h] at er; cases er
  · rw [if_neg h] at er
    have e : zmod v w = some (zrem v w) := if_neg (fun q => h (Or.inl (by rw [hy, q]; decide)))
    rw [e]
    have er : K (Int.tmod x y) = some r := er
    rw [hx, hy, ← pt_rem (by omega)] at er
    exact kk _ r er
theorem r_div {K' : Int32 → Option β} {y : Int} {v w : Int32} (hx : x = v.toInt) (hy : y = w.toInt) (kk : ∀ v : Int32, pRf Q (K v.toInt) (K' v)) : pRf Q ((pdiv x y).bind K) ((zdiv v w).bind K') := by
  intro r er
  unfold pdiv at er
  by_cases h : y = 0 ∨ x = -2147483648
  · rw [if_pos h] at er; cases er
  · rw [if_neg h] at er
    have e : zdiv v w = some (v / w) := if_neg (fun q => h (Or.inl (by rw [hy, q]; decide)))
    rw [e]
    have er : K (Int.tdiv x y) = some r := er
    rw [hx, hy, ← pt_div (.inl (by omega))] at er
    exact kk _ r er
theorem r_lmod {K' : Int64 → Option β} {y : Int} {v w : Int64} (hx : x = v.toInt) (hy : y = w.toInt) (kk : ∀ v : Int64, pRf Q (K v.toInt) (K' v)) : pRf Q ((pjmod x y).bind K) ((zlmod v w).bind K') := by
  intro r er
  unfold pjmod at er
  by_cases h : y = 0 ∨ x = -9223372036854775808
  · rw [if_pos h] at er; cases er
  · rw [if_neg h] at er
    have e : zlmod v w = some (zlrem v w) := if_neg (fun q => h (Or.inl (by rw [hy, q]; decide)))
    rw [e]
    have er : K (Int.tmod x y) = some r := er
    rw [hx, hy, ← ptj_rem (by omega)] at er
    exact kk _ r er
theorem r_ldiv {K' : Int64 → Option β} {y : Int} {v w : Int64} (hx : x = v.toInt) (hy : y = w.toInt) (kk : ∀ v : Int64, pRf Q (K v.toInt) (K' v)) : pRf Q ((pjdiv x y).bind K) ((zldiv v w).bind K') := by
  intro r er
  unfold pjdiv at er
  by_cases h : y = 0 ∨ x = -9223372036854775808
  · rw [if_pos h] at er; cases er
  · rw [if_neg h] at er
    have e : zldiv v w = some (v / w) := if_neg (fun q => h (Or.inl (by rw [hy, q]; decide)))
    rw [e]
    have er : K (Int.tdiv x y) = some r := er
    rw [hx, hy, ← ptj_div (.inl (by omega))] at er
    exact kk _ r er
end
