/-! PURE: what both hold, component (SC) against model (SM) -/
set_option maxRecDepth 100000
def pLine (d k t i v : Int) : Prop := v = ((d * 6 + k) * 64 + t) * 7 + i + 1 ∧ (0 ≤ d ∧ d ≤ 9999) ∧ (0 ≤ k ∧ k < 6) ∧ (0 ≤ t ∧ t < 64) ∧ -1 ≤ i ∧ i < 6
/-- counts -/
def pHd (N A : Int → Int) : Prop :=
  (N 0 = A 0 ∧ 0 ≤ A 0 ∧ A 0 ≤ 6) ∧ (N 1 = A 1 ∧ 0 ≤ A 1 ∧ A 1 ≤ 4) ∧ (N 2 = A 2 ∧ -1 ≤ A 2 ∧ A 2 < A 1) ∧ (N 3 = A 3 ∧ 0 ≤ A 3 ∧ A 3 ≤ 30) ∧
  (N 4 = A 4 ∧ 0 ≤ A 4 ∧ A 4 ≤ 6) ∧ (N 5 = A 5 ∧ 0 ≤ A 5 ∧ A 5 ≤ 8) ∧ N 6 = A 6 ∧ 0 ≤ A 6 ∧ A 6 ≤ 8
/-- what is now: dinner, change, lines, straps; kept; seats -/
def pCur (n : Int) (r A : Int → Int) : Prop :=
  (r 0 = A 7 ∧ 0 ≤ A 7 ∧ A 7 ≤ 9999) ∧ (r 1 = A 8 ∧ 0 ≤ A 8 ∧ A 8 < 30971) ∧ (r 15 = A 9 ∧ 0 ≤ A 9 ∧ A 9 ≤ 25) ∧ r 14 = A 10 ∧
  (∀ k, 0 ≤ k → k < n → r (8 + k) = A (11 + k) ∧ 0 ≤ A (11 + k) ∧ A (11 + k) ≤ 99) ∧
  (∀ k, 0 ≤ k → k < n → 0 ≤ A (17 + k) ∧ A (17 + k) < n ∧ r (2 + A (17 + k)) = k) ∧
  ∀ s, 0 ≤ s → s < n → 0 ≤ r (2 + s) ∧ r (2 + s) < n ∧ A (17 + r (2 + s)) = s
/-- the book -/
def pBk (r A : Int → Int) : Prop := ∀ i, 0 ≤ i → i < A 9 → pLine (r (16 + 4 * i)) (r (17 + 4 * i)) (r (18 + 4 * i)) (r (19 + 4 * i)) (A (1425 + i))
/-- a step that lies at x -/
def pStp (n : Int) (r A : Int → Int) (x : Int) : Prop :=
  (0 ≤ A x ∧ A x ≤ n) ∧ (r 0 = A (x + 1) ∧ 0 ≤ A (x + 1) ∧ A (x + 1) ≤ 9999) ∧ (r 1 = A (x + 2) ∧ 0 ≤ A (x + 2) ∧ A (x + 2) < 30971) ∧ (r 15 = A (x + 3) ∧ 0 ≤ A (x + 3) ∧ A (x + 3) ≤ 25) ∧ r 14 = A (x + 4) ∧
  (∀ k, 0 ≤ k → k < A x → r (8 + k) = A (x + 5 + k) ∧ 0 ≤ A (x + 5 + k) ∧ A (x + 5 + k) ≤ 99) ∧
  (∀ k, 0 ≤ k → k < A x → 0 ≤ A (x + 11 + k) ∧ A (x + 11 + k) < A x ∧ r (2 + A (x + 11 + k)) = k) ∧
  (∀ s, 0 ≤ s → s < A x → 0 ≤ r (2 + s) ∧ r (2 + s) < A x ∧ A (x + 11 + r (2 + s)) = s) ∧
  (∀ k, A x ≤ k → k < n → r (2 + k) = k ∧ r (8 + k) = A (29 + k)) ∧
  ∀ i, 0 ≤ i → i < A (x + 3) → pLine (r (16 + 4 * i)) (r (17 + 4 * i)) (r (18 + 4 * i)) (r (19 + 4 * i)) (A (x + 17 + i))
def pTem (T A : Int → Int) : Prop := ∀ k, 0 ≤ k → k < A 0 → T k = A (23 + k) ∧ 0 ≤ A (23 + k) ∧ A (23 + k) ≤ 9
def pBeg (A : Int → Int) : Prop := ∀ k, 0 ≤ k → k < A 0 → 0 ≤ A (29 + k) ∧ A (29 + k) ≤ 99
def pSpi (sp : Int → Int → Int) (A : Int → Int) : Prop := ∀ a b, 0 ≤ a → a < 6 → 0 ≤ b → b < 6 → sp a b = A (35 + 6 * a + b) ∧ A (35 + 6 * a + b) = A (35 + 6 * b + a) ∧ 0 ≤ A (35 + 6 * a + b) ∧ A (35 + 6 * a + b) ≤ 99 ∧ (a = b → A (35 + 6 * a + b) = 0)
def pHed (H A : Int → Int) : Prop := ∀ c, 0 ≤ c → c < 36 → H c = A (71 + c) ∧ 0 ≤ A (71 + c) ∧ A (71 + c) ≤ 3
def pGue (gu : Int → Int → Int) (A : Int → Int) : Prop := ∀ i, 0 ≤ i → i < A 4 → gu i 0 = A (107 + 3 * i) ∧ gu i 1 = 10 * A (108 + 3 * i) + A (109 + 3 * i) ∧ (0 ≤ A (107 + 3 * i) ∧ A (107 + 3 * i) ≤ 124) ∧ (0 ≤ A (108 + 3 * i) ∧ A (108 + 3 * i) ≤ 3) ∧ 0 ≤ A (109 + 3 * i) ∧ A (109 + 3 * i) ≤ 3
def pGai (M Y A : Int → Int) : Prop := ∀ k, 0 ≤ k → k < 4 → (M k = A (125 + 2 * k) ∧ -99 ≤ A (125 + 2 * k) ∧ A (125 + 2 * k) ≤ 99) ∧ Y k = A (126 + 2 * k) ∧ -99 ≤ A (126 + 2 * k) ∧ A (126 + 2 * k) ≤ 99
def pSay (sa : Int → Int → Int) (A : Int → Int) : Prop := ∀ i, 0 ≤ i → i < A 5 → (sa i 0 = A (133 + 2 * i) ∧ 0 ≤ A (133 + 2 * i) ∧ A (133 + 2 * i) ≤ 99) ∧ sa i 1 = A (134 + 2 * i) ∧ 1 ≤ A (134 + 2 * i) ∧ A (134 + 2 * i) ≤ 99
def pTol (to : Int → Int → Int) (A : Int → Int) : Prop := ∀ i, 0 ≤ i → i < A 6 → (to i 0 = A (149 + 2 * i) ∧ 0 ≤ A (149 + 2 * i) ∧ A (149 + 2 * i) < A 0) ∧ to i 1 = A (150 + 2 * i) ∧ 0 ≤ A (150 + 2 * i) ∧ A (150 + 2 * i) ≤ 10
def pSts (st : Int → Int → Int) (A : Int → Int) : Prop := ∀ j, 0 ≤ j → j < A 3 → pStp (A 0) (st j) A (165 + 42 * j)
/-- a whole state -/
def pSt (N R T H M Y : Int → Int) (sp gu sa to st : Int → Int → Int) (A : Int → Int) : Prop :=
  pHd N A ∧ pCur (A 0) R A ∧ pBk R A ∧ pTem T A ∧ pBeg A ∧ pSpi sp A ∧ pHed H A ∧ pGue gu A ∧ pGai M Y A ∧ pSay sa A ∧ pTol to A ∧ pSts st A
def pNow (SC SM : zP) : Prop := pSt (SC 2) (SC 3) (SC 4) (SC 5) (SC 6) (SC 7) (fun k => SC (9 + k.toNat)) (fun k => SC (16 + k.toNat)) (fun k => SC (23 + k.toNat)) (fun k => SC (32 + k.toNat)) (fun k => SC (41 + k.toNat)) (SM 1)
def pImg (SC SM : zP) : Prop := pSt (SC 73) (SC 74) (SC 75) (SC 76) (SC 77) (SC 78) (fun k => SC (80 + k.toNat)) (fun k => SC (87 + k.toNat)) (fun k => SC (94 + k.toNat)) (fun k => SC (103 + k.toNat)) (fun k => SC (112 + k.toNat)) (SM 2)
/-- the tape, the last fault; lines are written -/
def pMis (SC SM : zP) : Prop := (SC 0 3 = SM 0 4 ∧ 0 ≤ SM 0 4 ∧ SM 0 4 ≤ 300) ∧ SC 0 4 = SM 0 5 ∧ SC 0 5 = SM 0 6 ∧ SM 0 23 = 1 ∧ (∀ i, 0 ≤ i → i < SM 0 4 → 0 ≤ SM 4 i ∧ SM 4 i ≤ 255 ∧ SC 143 i = if SM 4 i < 128 then SM 4 i else SM 4 i - 256)
/-! a text's laws: their steps as they lie, and what they give -/
def pTwo (o x y : Int) : Int := let z := if o = 6 then x + y else if o = 7 then x - y else if o = 8 then x * y else if y = 0 then 0 else Int.tdiv x y
  if z > 1000000 then 1000000 else if z < -1000000 then -1000000 else z
def pAsk (o x y : Int) : Bool := if o = 10 then decide (x < y) else if o = 11 then decide (x ≤ y) else if o = 12 then decide (x > y) else if o = 13 then decide (x ≥ y) else if o = 14 then decide (x = y) else decide (x ≠ y)
def pOne (nm : Int → Int) (o x : Int) : Int := if o = 5 then -x else if x < 0 ∨ 6 ≤ x then 0 else if o = 2 then nm (7 + x) else nm (13 + x)
def pEv (nm : Int → Int) : List (Int × Int) → List Int → List Bool → Option (List Int × List Bool)
  | [], vs, ts => some (vs, ts)
  | (o, v) :: L, vs, ts =>
    if o = 0 then pEv nm L (v :: vs) ts
    else if o = 1 then (if 0 ≤ v ∧ v < 7 then pEv nm L (nm v :: vs) ts else none)
    else if o = 3 then (match vs, ts with
      | b :: a :: vs', t :: ts' => pEv nm L ((if t then a else b) :: vs') ts'
      | _, _ => none)
    else if o = 2 ∨ o = 4 ∨ o = 5 then (match vs with
      | a :: vs' => pEv nm L (pOne nm o a :: vs') ts
      | [] => none)
    else if 6 ≤ o ∧ o ≤ 9 then (match vs with
      | b :: a :: vs' => pEv nm L (pTwo o a b :: vs') ts
      | _ => none)
    else if 10 ≤ o ∧ o ≤ 15 then (match vs with
      | b :: a :: vs' => pEv nm L vs' (pAsk o a b :: ts)
      | _ => none)
    else if o = 20 then (match ts with
      | t :: ts' => pEv nm L vs ((!t) :: ts')
      | [] => none)
    else if o = 21 ∨ o = 22 then (match ts with
      | u :: t :: ts' => pEv nm L vs ((if o = 21 then t && u else t || u) :: ts')
      | _ => none)
    else none
def pCode (X : Int → Int) (b f e : Int) : List (Int × Int) := (List.range (e - f).toNat).map fun (i : Nat) => (X (b + 73 + 2 * (f + (i : Int))), X (b + 74 + 2 * (f + (i : Int))))
def pGood (w : Int) (L : List (Int × Int)) : Prop := ∀ p ∈ L, (p.1 = 0 → 0 ≤ p.2 ∧ p.2 ≤ 9999) ∧ (p.1 = 1 → p.2 ≠ 6 - w)
def pLaw (W : pW) (X : Int → Int) (t w : Int) : Prop :=
  ((∀ k, 0 ≤ k → k < X (681 * t) → X (681 * t + 1 + 3 * k) ≠ w) ∧ ∀ nm, W.2.2 (W.1 t) w nm = some none) ∨
  ∃ k f e, 0 ≤ k ∧ k < X (681 * t) ∧ X (681 * t + 1 + 3 * k) = w ∧ (∀ j, 0 ≤ j → j < k → X (681 * t + 1 + 3 * j) ≠ w) ∧ X (681 * t + 2 + 3 * k) = f ∧ X (681 * t + 3 + 3 * k) = e ∧ 0 ≤ f ∧ f ≤ e ∧ e ≤ 304 ∧ pGood w (pCode X (681 * t) f e) ∧
    ∀ nm, ∃ x, W.2.2 (W.1 t) w nm = some (some x) ∧ pEv nm (pCode X (681 * t) f e) [] [] = some ([x], [])
def pTx (W : pW) (SM : zP) : Prop := (∀ w nm, (w = 0 ∨ w = 1) → W.2.2 W.2.1 w nm = some none) ∧ ∀ t, 0 ≤ t → t < SM 1 1 → (0 ≤ SM 3 (681 * t) ∧ SM 3 (681 * t) ≤ 24) ∧ pLaw W (SM 3) t 0 ∧ pLaw W (SM 3) t 1
def pRel (W : pW) (SC SM : zP) : Prop := pNow SC SM ∧ pImg SC SM ∧ pMis SC SM ∧ pTx W SM
/-! parts that don't change -/
section
variable {n : Int} {N R T H M Y N' R' T' H' M' Y' A A' : Int → Int} {sp gu sa to st sp' gu' sa' to' st' : Int → Int → Int} {SC SM SC' SM' : zP} {W : pW}
theorem pHd_c (h : pHd N A) (e : ∀ i, 0 ≤ i → i < 7 → A' i = A i) (f : ∀ i, 0 ≤ i → i < 7 → N' i = N i) : pHd N' A' := by
  unfold pHd at *
  rw [e 0 (by omega) (by omega), e 1 (by omega) (by omega), e 2 (by omega) (by omega), e 3 (by omega) (by omega), e 4 (by omega) (by omega), e 5 (by omega) (by omega), e 6 (by omega) (by omega), f 0 (by omega) (by omega), f 1 (by omega) (by omega), f 2 (by omega) (by omega), f 3 (by omega) (by omega), f 4 (by omega) (by omega), f 5 (by omega) (by omega), f 6 (by omega) (by omega)]
  exact h
theorem pCur_c (hn : n ≤ 6) (h : pCur n R A) (e : ∀ i, 7 ≤ i → i < 23 → A' i = A i) (f : ∀ i, 0 ≤ i → i < 16 → R' i = R i) : pCur n R' A' := by
  obtain ⟨h1, h2, h3, h4, h5, h6, h7⟩ := h
  unfold pCur
  rw [e 7 (by omega) (by omega), e 8 (by omega) (by omega), e 9 (by omega) (by omega), e 10 (by omega) (by omega), f 0 (by omega) (by omega), f 1 (by omega) (by omega), f 15 (by omega) (by omega), f 14 (by omega) (by omega)]
  refine ⟨h1, h2, h3, h4, fun k a b => ?_, fun k a b => ?_, fun s a b => ?_⟩
  · rw [e _ (by omega) (by omega), f _ (by omega) (by omega)]; exact h5 k a b
  · have := h6 k a b
    rw [e _ (by omega) (by omega), f _ (by omega) (by omega)]; exact this
  · have := h7 s a b
    rw [f _ (by omega) (by omega), e _ (by omega) (by omega)]; exact this
theorem pBk_c (h9 : 0 ≤ A 9 ∧ A 9 ≤ 25) (h : pBk R A) (e9 : A' 9 = A 9) (e : ∀ i, 1425 ≤ i → i < 1450 → A' i = A i) (f : ∀ i, 16 ≤ i → i < 116 → R' i = R i) : pBk R' A' := by
  intro i a b
  rw [e9] at b
  rw [e _ (by omega) (by omega), f _ (by omega) (by omega), f _ (by omega) (by omega), f _ (by omega) (by omega), f _ (by omega) (by omega)]
  exact h i a b
theorem pTem_c (h0 : A 0 ≤ 6) (h : pTem T A) (e0 : A' 0 = A 0) (e : ∀ i, 23 ≤ i → i < 29 → A' i = A i) (f : ∀ i, 0 ≤ i → i < 6 → T' i = T i) : pTem T' A' := by
  intro k a b
  rw [e0] at b
  rw [e _ (by omega) (by omega), f _ (by omega) (by omega)]; exact h k a b
theorem pBeg_c (h0 : A 0 ≤ 6) (h : pBeg A) (e0 : A' 0 = A 0) (e : ∀ i, 29 ≤ i → i < 35 → A' i = A i) : pBeg A' := by
  intro k a b
  rw [e0] at b
  rw [e _ (by omega) (by omega)]; exact h k a b
theorem pSpi_c (h : pSpi sp A) (e : ∀ i, 35 ≤ i → i < 71 → A' i = A i) (f : ∀ a i, 0 ≤ a → a < 6 → 0 ≤ i → i < 6 → sp' a i = sp a i) : pSpi sp' A' := by
  intro a b h1 h2 h3 h4
  rw [e _ (by omega) (by omega), e _ (by omega) (by omega), f _ _ h1 h2 h3 h4]; exact h a b h1 h2 h3 h4
theorem pHed_c (h : pHed H A) (e : ∀ i, 71 ≤ i → i < 107 → A' i = A i) (f : ∀ i, 0 ≤ i → i < 36 → H' i = H i) : pHed H' A' := by
  intro k a b
  rw [e _ (by omega) (by omega), f _ (by omega) (by omega)]; exact h k a b
theorem pGue_c (h0 : A 4 ≤ 6) (h : pGue gu A) (e0 : A' 4 = A 4) (e : ∀ i, 107 ≤ i → i < 125 → A' i = A i) (f : ∀ a i, 0 ≤ a → a < 6 → 0 ≤ i → i < 2 → gu' a i = gu a i) : pGue gu' A' := by
  intro k a b
  rw [e0] at b
  rw [e _ (by omega) (by omega), e _ (by omega) (by omega), e _ (by omega) (by omega), f _ _ (by omega) (by omega) (by omega) (by omega), f _ _ (by omega) (by omega) (by omega) (by omega)]; exact h k a b
theorem pGai_c (h : pGai M Y A) (e : ∀ i, 125 ≤ i → i < 133 → A' i = A i) (f : ∀ i, 0 ≤ i → i < 4 → M' i = M i) (f2 : ∀ i, 0 ≤ i → i < 4 → Y' i = Y i) : pGai M' Y' A' := by
  intro k a b
  rw [e _ (by omega) (by omega), e _ (by omega) (by omega), f _ (by omega) (by omega), f2 _ (by omega) (by omega)]; exact h k a b
theorem pSay_c (h0 : A 5 ≤ 8) (h : pSay sa A) (e0 : A' 5 = A 5) (e : ∀ i, 133 ≤ i → i < 149 → A' i = A i) (f : ∀ a i, 0 ≤ a → a < 8 → 0 ≤ i → i < 2 → sa' a i = sa a i) : pSay sa' A' := by
  intro k a b
  rw [e0] at b
  rw [e _ (by omega) (by omega), e _ (by omega) (by omega), f _ _ (by omega) (by omega) (by omega) (by omega), f _ _ (by omega) (by omega) (by omega) (by omega)]; exact h k a b
theorem pTol_c (h0 : A 6 ≤ 8) (h : pTol to A) (e0 : A' 6 = A 6) (e1 : A 0 ≤ A' 0) (e : ∀ i, 149 ≤ i → i < 165 → A' i = A i) (f : ∀ a i, 0 ≤ a → a < 8 → 0 ≤ i → i < 2 → to' a i = to a i) : pTol to' A' := by
  intro k a b
  rw [e0] at b
  have := h k a b
  rw [e (149 + 2 * k) (by omega) (by omega), e (150 + 2 * k) (by omega) (by omega), f _ _ (by omega) (by omega) (by omega) (by omega), f _ _ (by omega) (by omega) (by omega) (by omega)]
  exact ⟨⟨this.1.1, this.1.2.1, by omega⟩, this.2⟩
theorem pStp_c {x : Int} (hx : 165 ≤ x ∧ x ≤ 1383) (hn : n ≤ 6) (h : pStp n R A x) (e : ∀ i, x ≤ i → i < x + 42 → A' i = A i) (e2 : ∀ i, 29 ≤ i → i < 35 → A' i = A i) (f : ∀ i, 0 ≤ i → i < 116 → R' i = R i) : pStp n R' A' x := by
  obtain ⟨h0, h1, h2, h3, h4, h5, h6, h7, h8, h9⟩ := h
  unfold pStp
  rw [e x (by omega) (by omega), e (x + 1) (by omega) (by omega), e (x + 2) (by omega) (by omega), e (x + 3) (by omega) (by omega), e (x + 4) (by omega) (by omega), f 0 (by omega) (by omega), f 1 (by omega) (by omega), f 15 (by omega) (by omega), f 14 (by omega) (by omega)]
  refine ⟨h0, h1, h2, h3, h4, fun k a b => ?_, fun k a b => ?_, fun s a b => ?_, fun k a b => ?_, fun i a b => ?_⟩
  · rw [e _ (by omega) (by omega), f _ (by omega) (by omega)]; exact h5 k a b
  · have := h6 k a b
    rw [e _ (by omega) (by omega), f _ (by omega) (by omega)]; exact this
  · have := h7 s a b
    rw [f _ (by omega) (by omega), e _ (by omega) (by omega)]; exact this
  · rw [f _ (by omega) (by omega), f _ (by omega) (by omega), e2 _ (by omega) (by omega)]; exact h8 k a b
  · rw [e _ (by omega) (by omega), f _ (by omega) (by omega), f _ (by omega) (by omega), f _ (by omega) (by omega), f _ (by omega) (by omega)]; exact h9 i a b
theorem pSts_c (h0 : A 0 ≤ 6) (h3 : A 3 ≤ 30) (h : pSts st A) (e0 : A' 0 = A 0) (e3 : A' 3 = A 3) (e : ∀ i, 165 ≤ i → i < 1425 → A' i = A i) (e2 : ∀ i, 29 ≤ i → i < 35 → A' i = A i) (f : ∀ a i, 0 ≤ a → a < 30 → 0 ≤ i → i < 116 → st' a i = st a i) : pSts st' A' := by
  intro j a b
  rw [e3] at b
  rw [e0]
  exact pStp_c (by omega) (by omega) (h j a b) (fun i c d => e i (by omega) (by omega)) e2 (fun i c d => f j i a (by omega) c d)
theorem pNow_e (h : pNow SC SM) (e : ∀ c, 2 ≤ c → c ≤ 70 → SC' c = SC c) (e2 : SM' 1 = SM 1) : pNow SC' SM' := by
  obtain ⟨g1, g2, g3, g4, g5, g6, g7, g8, g9, g10, g11, g12⟩ := h
  unfold pNow
  rw [e2, e 2 (by omega) (by omega), e 3 (by omega) (by omega), e 4 (by omega) (by omega), e 5 (by omega) (by omega), e 6 (by omega) (by omega), e 7 (by omega) (by omega)]
  refine ⟨g1, g2, g3, g4, g5, ?_, g7, ?_, g9, ?_, ?_, ?_⟩
  · exact pSpi_c g6 (fun _ _ _ => rfl) (fun a i a0 a1 _ _ => by show SC' _ _ = SC _ _; rw [e _ (by omega) (by omega)])
  · exact pGue_c g1.2.2.2.2.1.2.2 g8 rfl (fun _ _ _ => rfl) (fun a i a0 a1 _ _ => by show SC' _ _ = SC _ _; rw [e _ (by omega) (by omega)])
  · exact pSay_c g1.2.2.2.2.2.1.2.2 g10 rfl (fun _ _ _ => rfl) (fun a i a0 a1 _ _ => by show SC' _ _ = SC _ _; rw [e _ (by omega) (by omega)])
  · exact pTol_c g1.2.2.2.2.2.2.2.2 g11 rfl (Int.le_refl _) (fun _ _ _ => rfl) (fun a i a0 a1 _ _ => by show SC' _ _ = SC _ _; rw [e _ (by omega) (by omega)])
  · exact pSts_c g1.1.2.2 g1.2.2.2.1.2.2 g12 rfl rfl (fun _ _ _ => rfl) (fun _ _ _ => rfl) (fun a i a0 a1 _ _ => by show SC' _ _ = SC _ _; rw [e _ (by omega) (by omega)])
theorem pImg_e (h : pImg SC SM) (e : ∀ c, 73 ≤ c → c ≤ 141 → SC' c = SC c) (e2 : SM' 2 = SM 2) : pImg SC' SM' := by
  obtain ⟨g1, g2, g3, g4, g5, g6, g7, g8, g9, g10, g11, g12⟩ := h
  unfold pImg
  rw [e2, e 73 (by omega) (by omega), e 74 (by omega) (by omega), e 75 (by omega) (by omega), e 76 (by omega) (by omega), e 77 (by omega) (by omega), e 78 (by omega) (by omega)]
  refine ⟨g1, g2, g3, g4, g5, ?_, g7, ?_, g9, ?_, ?_, ?_⟩
  · exact pSpi_c g6 (fun _ _ _ => rfl) (fun a i a0 a1 _ _ => by show SC' _ _ = SC _ _; rw [e _ (by omega) (by omega)])
  · exact pGue_c g1.2.2.2.2.1.2.2 g8 rfl (fun _ _ _ => rfl) (fun a i a0 a1 _ _ => by show SC' _ _ = SC _ _; rw [e _ (by omega) (by omega)])
  · exact pSay_c g1.2.2.2.2.2.1.2.2 g10 rfl (fun _ _ _ => rfl) (fun a i a0 a1 _ _ => by show SC' _ _ = SC _ _; rw [e _ (by omega) (by omega)])
  · exact pTol_c g1.2.2.2.2.2.2.2.2 g11 rfl (Int.le_refl _) (fun _ _ _ => rfl) (fun a i a0 a1 _ _ => by show SC' _ _ = SC _ _; rw [e _ (by omega) (by omega)])
  · exact pSts_c g1.1.2.2 g1.2.2.2.1.2.2 g12 rfl rfl (fun _ _ _ => rfl) (fun _ _ _ => rfl) (fun a i a0 a1 _ _ => by show SC' _ _ = SC _ _; rw [e _ (by omega) (by omega)])
theorem pMis_e (h : pMis SC SM) (e1 : SC' 0 3 = SC 0 3) (e2 : SC' 0 4 = SC 0 4) (e3 : SC' 0 5 = SC 0 5) (f1 : SM' 0 4 = SM 0 4) (f2 : SM' 0 5 = SM 0 5) (f3 : SM' 0 6 = SM 0 6) (f4 : SM' 0 23 = SM 0 23) (e4 : SC' 143 = SC 143) (f5 : SM' 4 = SM 4) : pMis SC' SM' := by
  unfold pMis
  rw [e1, e2, e3, f1, f2, f3, f4, e4, f5]; exact h
theorem pTx_e (h : pTx W SM) (e : SM' 3 = SM 3) (e1 : SM' 1 1 = SM 1 1) : pTx W SM' := by
  unfold pTx
  rw [e, e1]; exact h
/-- both keep all, but what is working room -/
theorem pRel_w (h : pRel W SC SM) (e : ∀ c, 2 ≤ c → c ≤ 143 → SC' c = SC c) (e0 : ∀ i, i < 6 → SC' 0 i = SC 0 i) (f : ∀ c, 1 ≤ c → c ≤ 4 → SM' c = SM c) (f0 : ∀ i, i < 7 ∨ i = 23 → SM' 0 i = SM 0 i) : pRel W SC' SM' :=
  ⟨pNow_e h.1 (fun c a b => e c a (by omega)) (f 1 (by omega) (by omega)), pImg_e h.2.1 (fun c a b => e c (by omega) (by omega)) (f 2 (by omega) (by omega)),
   pMis_e h.2.2.1 (e0 _ (by omega)) (e0 _ (by omega)) (e0 _ (by omega)) (f0 _ (by omega)) (f0 _ (by omega)) (f0 _ (by omega)) (f0 _ (by omega)) (e 143 (by omega) (by omega)) (f 4 (by omega) (by omega)),
   pTx_e h.2.2.2 (f 3 (by omega) (by omega)) (by rw [f 1 (by omega) (by omega)])⟩
/-- what is now changes: where P doesn't hold in the model's row, where R doesn't hold in the component's cells -/
theorem now_u (P : Int → Prop) (R : Nat → Prop) (h : pRel W SC SM) (p1 : P 1) (r : ∀ c, (c = 0 ∨ 71 ≤ c) → R c) (e : ∀ i, P i → SM' 1 i = SM 1 i) (e' : ∀ c, c ≠ 1 → SM' c = SM c) (f : ∀ c, R c → SC' c = SC c) (k : (∀ i, P i → SM' 1 i = SM 1 i) → (∀ c, R c → SC' c = SC c) → pNow SC' SM') : pRel W SC' SM' :=
  ⟨k e f, pImg_e h.2.1 (fun c a b => f c (r c (by omega))) (e' 2 (by omega)),
   pMis_e h.2.2.1 (congrFun (f 0 (r 0 (by omega))) _) (congrFun (f 0 (r 0 (by omega))) _) (congrFun (f 0 (r 0 (by omega))) _) (congrFun (e' 0 (by omega)) _) (congrFun (e' 0 (by omega)) _) (congrFun (e' 0 (by omega)) _) (congrFun (e' 0 (by omega)) _) (f 143 (r _ (by omega))) (e' 4 (by omega)),
   pTx_e h.2.2.2 (e' 3 (by omega)) (e 1 p1)⟩
end
