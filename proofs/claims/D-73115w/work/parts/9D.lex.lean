/-! READING: tokens -/
set_option maxRecDepth 100000
def lDg (c : Int) : Bool := decide (48 ≤ c ∧ c ≤ 57)
def lLt (c : Int) : Bool := decide ((97 ≤ c ∧ c ≤ 122) ∨ (65 ≤ c ∧ c ≤ 90))
def lBl (c : Int) : Bool := decide (c = 32 ∨ c = 10)
/-- on while it is so: how many are left, where -/
def lRn (q : Int → Bool) (tp : Int → Int) : Nat → Int → Int
  | 0, a => a
  | k + 1, a => if q (tp a) = true then lRn q tp k (a + 1) else a
def lNm (tp : Int → Int) : Nat → Int → Int → Int
  | 0, _, v => v
  | k + 1, a, v => if lDg (tp a) = true then lNm tp k (a + 1) (if 99999 < 10 * v + tp a - 48 then 99999 else 10 * v + tp a - 48) else v
def lLs (tp : Int → Int) (p e : Int) : List Int := (List.range (e - p).toNat).map fun (i : Nat) => tp (p + (i : Int))
def lWs : List (List Int) := [[114, 101, 97, 99, 104, 101, 115], [98, 101, 97, 114, 115], [107, 105, 110], [114, 101, 97, 99, 104], [100, 111, 119, 110], [115, 116, 114, 97, 112], [115, 119, 97, 112], [100, 105, 110, 110, 101, 114], [107, 101, 112, 116], [98, 121], [119, 105, 116, 104], [97, 99, 114, 111, 115, 115], [113, 117, 105, 118, 101, 114], [105, 102], [116, 104, 101, 110], [101, 108, 115, 101], [101, 110, 100], [111, 114], [97, 110, 100], [110, 111, 116], [119, 104, 111], [116, 101, 109, 112, 101, 114], [115, 101, 97, 116], [98, 101, 115, 105, 100, 101], [108, 111, 111, 115, 101]]
def lFi (l : List Int) : List (List Int) → Int → Int
  | [], _ => 302
  | w :: ws, k => if l = w then k else lFi l ws (k + 1)
def lWd (l : List Int) : Int := lFi l lWs 200
def lSs : List Int := [60, 62, 61, 35, 43, 45, 42, 47, 40, 41, 59]
/-- a sign: its sort, how long -/
def lSg (c d : Int) : Int × Int := if c = 60 ∧ d = 61 then (303, 2) else if c = 62 ∧ d = 61 then (304, 2) else if lSs.contains c = true then (c, 1) else (302, 1)
def lx (tp : Int → Int) (n a : Int) : Int × Int × Int × Int :=
  let p := lRn lBl tp (n - a).toNat a
  if n ≤ p then (301, 0, p, p)
  else if lDg (tp p) = true then (300, lNm tp (n - p).toNat p 0, p, lRn lDg tp (n - p).toNat p)
  else if lLt (tp p) = true then (lWd (lLs tp p (lRn lLt tp (n - p).toNat p)), 0, p, lRn lLt tp (n - p).toNat p)
  else ((lSg (tp p) (if p + 1 < n then tp (p + 1) else -1)).1, 0, p, p + (lSg (tp p) (if p + 1 < n then tp (p + 1) else -1)).2)
theorem lRn_b (q : Int → Bool) (tp : Int → Int) : ∀ (k : Nat) (a : Int), a ≤ lRn q tp k a ∧ lRn q tp k a ≤ a + (k : Int)
  | 0, a => ⟨Int.le_refl _, by show a ≤ a + 0; omega⟩
  | k + 1, a => by
    have := lRn_b q tp k (a + 1)
    unfold lRn
    split <;> omega
theorem lRn_1 {q : Int → Bool} {tp : Int → Int} {k : Nat} {a : Int} (hk : 0 < k) (h : q (tp a) = true) : a < lRn q tp k a := by
  obtain ⟨j, rfl⟩ : ∃ j, k = j + 1 := ⟨k - 1, by omega⟩
  have := (lRn_b q tp j (a + 1)).1
  show a < (if q (tp a) = true then lRn q tp j (a + 1) else a)
  rw [if_pos h]; omega
theorem lRn_all {q : Int → Bool} {tp : Int → Int} : ∀ (k : Nat) (a i : Int), a ≤ i → i < lRn q tp k a → q (tp i) = true
  | 0, a, i, h, k => by
    have : i < a := k
    omega
  | n + 1, a, i, h, k => by
    have k : i < (if q (tp a) = true then lRn q tp n (a + 1) else a) := k
    by_cases hq : q (tp a) = true
    · rw [if_pos hq] at k
      by_cases hi : i = a
      · rw [hi]; exact hq
      · exact lRn_all n (a + 1) i (by omega) k
    · rw [if_neg hq] at k; omega
theorem lSg_b (c d : Int) : ((lSg c d).2 = 1 ∨ ((lSg c d).2 = 2 ∧ d = 61)) := by
  unfold lSg
  by_cases h : c = 60 ∧ d = 61
  · rw [if_pos h]; exact Or.inr ⟨rfl, h.2⟩
  · rw [if_neg h]
    by_cases k : c = 62 ∧ d = 61
    · rw [if_pos k]; exact Or.inr ⟨rfl, k.2⟩
    · rw [if_neg k]
      split <;> exact Or.inl rfl
theorem lx_b {tp : Int → Int} {n a : Int} (a0 : 0 ≤ a) (a1 : a ≤ n) : a ≤ (lx tp n a).2.2.1 ∧ (lx tp n a).2.2.1 ≤ (lx tp n a).2.2.2 ∧ (lx tp n a).2.2.2 ≤ n ∧ ((lx tp n a).1 ≠ 301 → (lx tp n a).2.2.1 < (lx tp n a).2.2.2) := by
  have hp := lRn_b lBl tp (n - a).toNat a
  unfold lx
  dsimp only
  obtain ⟨p, ep⟩ : ∃ p, p = lRn lBl tp (n - a).toNat a := ⟨_, rfl⟩
  rw [← ep] at hp ⊢
  by_cases h1 : n ≤ p
  · rw [if_pos h1]
    exact ⟨hp.1, Int.le_refl _, by dsimp only; omega, fun x => absurd rfl x⟩
  rw [if_neg h1]
  by_cases h2 : lDg (tp p) = true
  · rw [if_pos h2]
    have := lRn_b lDg tp (n - p).toNat p
    exact ⟨hp.1, this.1, by dsimp only; omega, fun _ => lRn_1 (by omega) h2⟩
  rw [if_neg h2]
  by_cases h3 : lLt (tp p) = true
  · rw [if_pos h3]
    have := lRn_b lLt tp (n - p).toNat p
    exact ⟨hp.1, this.1, by dsimp only; omega, fun _ => lRn_1 (by omega) h3⟩
  rw [if_neg h3]
  have := lSg_b (tp p) (if p + 1 < n then tp (p + 1) else -1)
  refine ⟨hp.1, ?_, ?_, fun _ => ?_⟩
  · dsimp only; omega
  · dsimp only
    rcases this with h | ⟨h, k⟩
    · omega
    · by_cases hn : p + 1 < n
      · omega
      · rw [if_neg hn] at k; omega
  · dsimp only; omega
/-! letters packed -/
def pkA (w b : Int) : Int := if w < 281474976710656 then 256 * w + b else 1152921504606846976
def pkR : List Int → Int
  | [] => 0
  | b :: r => pkA (pkR r) b
def lOk (l : List Int) : Prop := ∀ x ∈ l, 65 ≤ x ∧ x ≤ 122
theorem pkR_b : ∀ (l : List Int), lOk l → 0 ≤ pkR l ∧ pkR l ≤ 1152921504606846976 ∧ (l ≠ [] → 65 ≤ pkR l)
  | [], _ => ⟨Int.le_refl _, by decide, fun h => absurd rfl h⟩
  | b :: r, h => by
    have h1 := h b List.mem_cons_self
    have h2 := pkR_b r (fun x hx => h x (List.mem_cons_of_mem _ hx))
    show 0 ≤ (if pkR r < 281474976710656 then 256 * pkR r + b else 1152921504606846976) ∧ _ ∧ (_ → 65 ≤ (if pkR r < 281474976710656 then 256 * pkR r + b else 1152921504606846976))
    refine ⟨?_, ?_, fun _ => ?_⟩
    · split <;> omega
    · show (if pkR r < 281474976710656 then 256 * pkR r + b else 1152921504606846976) ≤ _
      split <;> omega
    · split <;> omega
theorem pkR_i : ∀ (t r : List Int), lOk t → lOk r → pkR t < 281474976710656 → pkR r = pkR t → r = t
  | [], r, _, hr, _, e => by
    cases r with
    | nil => rfl
    | cons b r' =>
      have := (pkR_b (b :: r') hr).2.2 (by simp)
      rw [e] at this
      exact absurd this (by decide)
  | c :: t', r, ht, hr, hl, e => by
    have hc := ht c List.mem_cons_self
    have ht' : lOk t' := fun x hx => ht x (List.mem_cons_of_mem _ hx)
    have bt := pkR_b t' ht'
    cases r with
    | nil =>
      have := (pkR_b (c :: t') ht).2.2 (by simp)
      rw [← e] at this
      exact absurd this (by decide)
    | cons b r' =>
      have hb := hr b List.mem_cons_self
      have hr' : lOk r' := fun x hx => hr x (List.mem_cons_of_mem _ hx)
      have br := pkR_b r' hr'
      have e1 : pkR (c :: t') = if pkR t' < 281474976710656 then 256 * pkR t' + c else 1152921504606846976 := rfl
      have e2 : pkR (b :: r') = if pkR r' < 281474976710656 then 256 * pkR r' + b else 1152921504606846976 := rfl
      rw [e1] at hl e
      rw [e2] at e
      by_cases x : pkR t' < 281474976710656
      · rw [if_pos x] at hl e
        by_cases y : pkR r' < 281474976710656
        · rw [if_pos y] at e
          have : b = c := by omega
          rw [this, pkR_i t' r' ht' hr' x (by omega)]
        · rw [if_neg y] at e; omega
      · rw [if_neg x] at hl; omega
theorem lFi_n : ∀ (ws : List (List Int)) (l : List Int) (k : Int), l ∉ ws → lFi l ws k = 302
  | [], _, _, _ => rfl
  | w :: ws, l, k, h => by
    show (if l = w then k else lFi l ws (k + 1)) = 302
    rw [if_neg (fun x => h (by rw [x]; exact List.mem_cons_self))]
    exact lFi_n ws l (k + 1) (fun x => h (List.mem_cons_of_mem _ x))
theorem tw_1 : ∀ l ∈ lWs, ∀ q ∈ tWs, (pkR l.reverse = q.2 ↔ lWd l = q.1) := by decide +kernel
theorem tw_2 : ∀ q ∈ tWs, ∃ l ∈ lWs, pkR l.reverse = q.2 ∧ q.2 < 281474976710656 ∧ ∀ x ∈ l.reverse, 65 ≤ x ∧ x ≤ 122 := by decide +kernel
theorem tw_3 : ∀ q ∈ tWs, 200 < q.1 ∧ q.1 < 225 := by decide +kernel
theorem tw_4 : ∀ l ∈ lWs, (lWd l = 200 ↔ l = [114, 101, 97, 99, 104, 101, 115]) ∧ 200 ≤ lWd l ∧ lWd l < 225 := by decide +kernel
theorem tw_w {l : List Int} (hl : lOk l) {q : Int × Int} (hq : q ∈ tWs) : pkR l.reverse = q.2 ↔ lWd l = q.1 := by
  by_cases h : l ∈ lWs
  · exact tw_1 l h q hq
  · have h1 : lWd l = 302 := lFi_n lWs l 200 h
    have h3 := tw_3 q hq
    refine ⟨fun e => ?_, fun e => by omega⟩
    exfalso
    obtain ⟨t, t1, t2, t3, t4⟩ := tw_2 q hq
    have : l.reverse = t.reverse := pkR_i t.reverse l.reverse t4 (fun x hx => hl x (List.mem_reverse.mp hx)) (by omega) (by rw [e, t2])
    have := congrArg List.reverse this
    rw [List.reverse_reverse, List.reverse_reverse] at this
    exact h (by rw [this]; exact t1)
theorem tw_r (l : List Int) : lWd l = 200 ↔ l = [114, 101, 97, 99, 104, 101, 115] := by
  by_cases h : l ∈ lWs
  · exact (tw_4 l h).1
  · have h1 : lWd l = 302 := lFi_n lWs l 200 h
    refine ⟨fun e => by omega, fun e => ?_⟩
    exfalso; apply h; rw [e]; decide
theorem tw_s (l : List Int) : lWd l = 302 ∨ (200 ≤ lWd l ∧ lWd l < 225) := by
  by_cases h : l ∈ lWs
  · exact Or.inr (tw_4 l h).2
  · exact Or.inl (lFi_n lWs l 200 h)
theorem i64_n {w : Int} (h0 : 0 ≤ w) (h1 : w < 9223372036854775808) : (Int64.ofInt w).toBitVec.toNat = w.toNat := by
  have : (Int64.ofInt w).toBitVec = BitVec.ofInt 64 w := rfl
  rw [this, BitVec.toNat_ofInt]
  omega
theorem pj_shl {w : Int} (w0 : 0 ≤ w) (w1 : w < 281474976710656) : (zlshl (Int64.ofInt w) (Int32.ofInt 8)).toBitVec.toNat = 256 * w.toNat := by
  unfold zlshl
  have e : ((Int32.ofInt 8).toInt64 &&& 63) = 8 := by decide
  rw [e]
  have e2 : (Int64.ofInt w <<< (8 : Int64)).toBitVec = (Int64.ofInt w).toBitVec <<< (8 : Nat) := rfl
  rw [e2, BitVec.toNat_shiftLeft, i64_n w0 (by omega), Nat.shiftLeft_eq]
  omega
theorem pj_pack {w b : Int} (w0 : 0 ≤ w) (w1 : w < 281474976710656) (b0 : 0 ≤ b) (b1 : b < 256) : pjor (pjshl w 8) b = 256 * w + b := by
  unfold pjor pjshl
  rw [Int64.ofInt_toInt]
  obtain ⟨X, eX⟩ : ∃ X, X = zlshl (Int64.ofInt w) (Int32.ofInt 8) := ⟨_, rfl⟩
  have hX := pj_shl w0 w1
  rw [← eX] at hX ⊢
  have e1 : (X ||| Int64.ofInt b).toInt = (X.toBitVec ||| (Int64.ofInt b).toBitVec).toInt := rfl
  have e2 : (X.toBitVec ||| (Int64.ofInt b).toBitVec).toNat = 256 * w.toNat + b.toNat := by
    rw [BitVec.toNat_or, hX, i64_n b0 (by omega)]
    have := Nat.shiftLeft_add_eq_or_of_lt (show b.toNat < 2 ^ 8 by omega) w.toNat
    rw [Nat.shiftLeft_eq] at this
    rw [show 256 * w.toNat = w.toNat * 2 ^ 8 by omega]
    exact this.symm
  rw [e1, BitVec.toInt_eq_toNat_of_lt (by rw [e2]; omega), e2]
  omega
theorem pj_shr {w : Int} (w0 : 0 ≤ w) (w1 : w ≤ 1152921504606846976) : pjshr w 48 = w / 281474976710656 := by
  unfold pjshr zlshr
  have e : ((Int32.ofInt 48).toInt64 &&& 63) = 48 := by decide
  rw [e]
  have e2 : (Int64.ofInt w >>> (48 : Int64)).toInt = ((Int64.ofInt w).toBitVec.sshiftRight (48 : Nat)).toInt := rfl
  have e3 : (Int64.ofInt w).toBitVec.toInt = w := by
    rw [BitVec.toInt_eq_toNat_of_lt (by rw [i64_n w0 (by omega)]; omega), i64_n w0 (by omega)]
    omega
  rw [e2, BitVec.toInt_sshiftRight, e3, Int.shiftRight_eq_div_pow]
  rfl
theorem pk_step {w b : Int} (w0 : 0 ≤ w) (w1 : w ≤ 1152921504606846976) (b0 : 0 ≤ b) (b1 : b < 256) : (if pjshr w 48 = 0 then pjor (pjshl w 8) b else 1152921504606846976) = pkA w b := by
  rw [pj_shr w0 w1]
  unfold pkA
  by_cases h : w < 281474976710656
  · rw [if_pos (by omega), if_pos h, pj_pack w0 h b0 b1]
  · rw [if_neg (by omega), if_neg h]
