/-! JOIN: the image, and back -/
set_option maxRecDepth 100000
def sN (x : Nat) : Nat := if x = 1 then 7 else if x = 2 then 116 else if x = 3 then 6 else if x = 4 then 36 else if x = 5 ∨ x = 6 then 4 else if 8 ≤ x ∧ x < 14 then 6 else if 15 ≤ x ∧ x < 21 then 2 else if 22 ≤ x ∧ x < 30 then 2 else if 31 ≤ x ∧ x < 39 then 2 else if 40 ≤ x ∧ x < 70 then 116 else 0
section
variable {g : zGd} {m m1 m2 : zMm} {b s d : Nat}
theorem cp1 {a c n : Nat} (ha : zK g a = (101, n)) (hc : zK g c = (101, n)) (hb : zB g ≤ c) (hn : n ≤ 100000) : ∃ m', f_X1_copy g m (some a) (some c) = some m' ∧ (∀ i, i < n → zI m' c i = zI m a i) ∧ (∀ q, q ≠ c → zI m' q = zI m q) ∧ zJ m' = zJ m ∧ zR m' = zR m := by
  have n0 : (0 : Int32).toNatClampNeg = 0 := by decide
  have e1 : (Int32.ofNat n).toInt = (n : Int) := i32_n (by omega)
  have e2 : (Int32.ofNat n).toNatClampNeg = n := by
    show (Int32.ofNat n).toInt.toNat = n
    omega
  refine ⟨(zrow m.1 c (va_cpy (zI m a) (zI m c) 0 0 n), m.2.1, m.2.2), ?_, fun i hi => ?_, fun q hq => ?_, rfl, rfl⟩
  · unfold f_X1_copy
    rw [e_alen ha (by omega), Option.bind_some]
    have : zcpi g m (some a) (0 : Int32) (some c) (0 : Int32) (Int32.ofNat n) = some (zrow m.1 c (va_cpy (zI m a) (zI m c) (0 : Int32).toNatClampNeg (0 : Int32).toNatClampNeg (Int32.ofNat n).toNatClampNeg), m.2.1, m.2.2) := by
      refine if_pos ⟨⟨by rw [ha], by rw [hc]⟩, ⟨hb, by decide, by decide, fun y => ?_⟩, ?_, ?_⟩
      · have := (i_lt e1 (show (0 : Int32).toInt = 0 by decide)).mp y
        omega
      · rw [n0, e2, ha]; show 0 + n ≤ n; omega
      · rw [n0, e2, hc]; show 0 + n ≤ n; omega
    rw [this, n0, e2]; rfl
  · show zrow m.1 c (va_cpy (zI m a) (zI m c) 0 0 n) c i = zI m a i
    unfold zrow va_cpy
    rw [if_pos rfl, if_pos (by omega), show 0 + (i - 0) = i by omega]
  · funext j
    show zrow m.1 c (va_cpy (zI m a) (zI m c) 0 0 n) q j = zI m q j
    unfold zrow
    rw [if_neg hq]; rfl
theorem cp2 {a c k n : Nat} (fa fc : Nat → Nat) (ha : zK g a = (106, k)) (hc : zK g c = (106, k)) (ra : ∀ q, q < k → zR m a q = some (fa q)) (rc : ∀ q, q < k → zR m c q = some (fc q)) (ka : ∀ q, q < k → zK g (fa q) = (101, n)) (kc : ∀ q, q < k → zK g (fc q) = (101, n)) (hb : ∀ q, q < k → zB g ≤ fc q) (hac : ∀ p q, p < k → q < k → fa p ≠ fc q) (hcc : ∀ p q, p < k → q < k → p ≠ q → fc p ≠ fc q) (hn : n ≤ 100000) (hk : k ≤ 1000) : ∃ m', f_X1_copy_2 g m (some a) (some c) = some m' ∧ (∀ q i, q < k → i < n → zI m' (fc q) i = zI m (fa q) i) ∧ (∀ p, (∀ q, q < k → p ≠ fc q) → zI m' p = zI m p) ∧ zJ m' = zJ m ∧ zR m' = zR m := by
  have lp : ∀ (r Fu j : Nat) (v : Int32) (m1 : zMm), v.toInt = (j : Int) → j + r = k → r < Fu → zR m1 = zR m → zJ m1 = zJ m → (∀ q i, q < j → i < n → zI m1 (fc q) i = zI m (fa q) i) → (∀ p, (∀ q, q < j → p ≠ fc q) → zI m1 p = zI m p) → ∃ m', zLoop (b_X1_copy_2_2 g (some a) (some c)) Fu (v, m1) = some m' ∧ (∀ q i, q < k → i < n → zI m' (fc q) i = zI m (fa q) i) ∧ (∀ p, (∀ q, q < k → p ≠ fc q) → zI m' p = zI m p) ∧ zJ m' = zJ m ∧ zR m' = zR m := by
    intro r
    induction r with
    | zero =>
      intro Fu j v m1 hv hj hF hR hJ h1 h2
      obtain ⟨Fu, rfl⟩ : ∃ F', Fu = F' + 1 := ⟨Fu - 1, by omega⟩
      have hj : j = k := by omega
      subst hj
      refine ⟨m1, zLoop_l ?_, h1, h2, hJ, hR⟩
      unfold b_X1_copy_2_2
      dsimp only
      rw [e_alen ha (by omega), Option.bind_some, if_pos ((i_le (i32_n (by omega)) hv).mpr (Int.le_refl _))]
    | succ r ih =>
      intro Fu j v m1 hv hj hF hR hJ h1 h2
      obtain ⟨Fu, rfl⟩ : ∃ F', Fu = F' + 1 := ⟨Fu - 1, by omega⟩
      have hjk : j < k := by omega
      obtain ⟨m2, e2, c1, c2, c3, c4⟩ := cp1 (m := m1) (ka j hjk) (kc j hjk) (hb j hjk) hn
      have pre : b_X1_copy_2_2 g (some a) (some c) (v, m1) = some (.inr (v + 1, m2)) := by
        unfold b_X1_copy_2_2
        dsimp only
        rw [e_alen ha (by omega), Option.bind_some, if_neg (fun y => by have := (i_le (i32_n (by omega)) hv).mp y; omega), e_aldr ha hv (by omega) (by omega), Option.bind_some, e_aldr hc hv (by omega) (by omega), Option.bind_some, hR, Int.toNat_natCast, ra j hjk, rc j hjk, e2]
        rfl
      rw [zLoop_r pre]
      refine ih Fu (j + 1) (v + 1) m2 (by rw [i_add hv (show (1 : Int32).toInt = 1 by decide) (by omega) (by omega)]; omega) (by omega) (by omega) (c4.trans hR) (c3.trans hJ) (fun q i hq hi => ?_) (fun p hp => ?_)
      · by_cases y : q = j
        · subst y
          rw [c1 i hi, h2 (fa q) (fun q' hq' => hac q q' hjk (by omega))]
        · rw [c2 (fc q) (hcc q j (by omega) hjk y)]
          exact h1 q i (by omega) hi
      · rw [c2 p (hp j (by omega))]
        exact h2 p (fun q hq => hp q (by omega))
  obtain ⟨m', e, h⟩ := lp k zFuel 0 0 m (by decide) (by omega) (by unfold zFuel; omega) rfl rfl (fun q i hq => by omega) (fun q _ => rfl)
  refine ⟨m', ?_, h⟩
  unfold f_X1_copy_2
  rw [e]; rfl
/-- cells of one state laid over another's, up to hi -/
def cpB (b s d : Nat) (m m' : zMm) (hi : Nat) : Prop := (∀ x i, x < hi → i < sN x → zI m' (b + (d + x)) i = zI m (b + (s + x)) i) ∧ (∀ q, (q ≤ b + d ∨ b + (d + hi) ≤ q) → zI m' q = zI m q) ∧ zJ m' = zJ m ∧ zR m' = zR m
theorem cpB_0 : cpB b s d m m 1 := ⟨fun x i hx hi => by
  have : x = 0 := by omega
  subst this
  exact absurd hi (Nat.not_lt_zero _), fun _ _ => rfl, rfl, rfl⟩
theorem cpB_s {lo hi l0 : Nat} (h : cpB b s d m m1 l0) (hsd : s + 71 ≤ d ∨ d + 71 ≤ s) (l1 : 1 ≤ l0) (hl : l0 ≤ lo) (hlh : lo ≤ hi) (h70 : hi ≤ 70) (gap : ∀ x, l0 ≤ x → x < lo → sN x = 0) (c1 : ∀ x i, lo ≤ x → x < hi → i < sN x → zI m2 (b + (d + x)) i = zI m1 (b + (s + x)) i) (c2 : ∀ q, (q < b + (d + lo) ∨ b + (d + hi) ≤ q) → zI m2 q = zI m1 q) (c3 : zJ m2 = zJ m1) (c4 : zR m2 = zR m1) : cpB b s d m m2 hi := by
  obtain ⟨h1, h2, h3, h4⟩ := h
  refine ⟨fun x i hx hi' => ?_, fun q hq => ?_, c3.trans h3, c4.trans h4⟩
  · by_cases y1 : x < l0
    · rw [c2 _ (by omega)]
      exact h1 x i y1 hi'
    · by_cases y2 : x < lo
      · have := gap x (by omega) y2
        omega
      · rw [c1 x i (by omega) hx hi', h2 _ (by omega)]
  · rw [c2 q (by omega), h2 q (by omega)]
theorem be_go (hs : pLS g (zR m) b s) (hd : pLS g (zR m) b d) (hsd : s + 71 ≤ d ∨ d + 71 ≤ s) (hb : zB g ≤ b) (htx : ∀ t x, t < 4 → zR m (b + (s + 70)) t = some x → zAsOk 7 (zK g x).1 = true) : ∃ m', f_X1_be g m (some (b + d)) (some (b + s)) = some m' ∧ (∀ x i, x < 70 → i < sN x → zI m' (b + (d + x)) i = zI m (b + (s + x)) i) ∧ (∀ q, (q ≤ b + d ∨ b + (d + 70) ≤ q) → zI m' q = zI m q) ∧ zJ m' = zJ m ∧ (∀ q, q ≠ b + (d + 70) → zR m' q = zR m q) ∧ ∀ k, k < 4 → zR m' (b + (d + 70)) k = zR m (b + (s + 70)) k := by
  have os : (zK g (b + s)).1 = 1 + 1 := ls_o hs
  have od : (zK g (b + d)).1 = 1 + 1 := ls_o hd
  have B0 : cpB b s d m m 1 := cpB_0
  obtain ⟨n1, e1, p1, f1, j1, r1⟩ := cp1 (m := m) (ls_k1 hs) (ls_k1 hd) (by omega) (by omega)
  have B1 : cpB b s d m n1 2 := cpB_s B0 hsd (by omega) (show 1 ≤ 1 by omega) (by omega) (by omega) (fun x a c => by exfalso; omega) (fun x i a c hi => by
    have : x = 1 := by omega
    subst this
    exact p1 i hi) (fun q hq => f1 q (by omega)) j1 r1
  obtain ⟨n2, e2, p2, f2, j2, r2⟩ := cp1 (m := n1) (ls_k2 hs) (ls_k2 hd) (by omega) (by omega)
  have B2 : cpB b s d m n2 3 := cpB_s B1 hsd (by omega) (show 2 ≤ 2 by omega) (by omega) (by omega) (fun x a c => by exfalso; omega) (fun x i a c hi => by
    have : x = 2 := by omega
    subst this
    exact p2 i hi) (fun q hq => f2 q (by omega)) j2 r2
  obtain ⟨n3, e3, p3, f3, j3, r3⟩ := cp1 (m := n2) (ls_k3 hs) (ls_k3 hd) (by omega) (by omega)
  have B3 : cpB b s d m n3 4 := cpB_s B2 hsd (by omega) (show 3 ≤ 3 by omega) (by omega) (by omega) (fun x a c => by exfalso; omega) (fun x i a c hi => by
    have : x = 3 := by omega
    subst this
    exact p3 i hi) (fun q hq => f3 q (by omega)) j3 r3
  obtain ⟨n4, e4, p4, f4, j4, r4⟩ := cp1 (m := n3) (ls_k4 hs) (ls_k4 hd) (by omega) (by omega)
  have B4 : cpB b s d m n4 5 := cpB_s B3 hsd (by omega) (show 4 ≤ 4 by omega) (by omega) (by omega) (fun x a c => by exfalso; omega) (fun x i a c hi => by
    have : x = 4 := by omega
    subst this
    exact p4 i hi) (fun q hq => f4 q (by omega)) j4 r4
  obtain ⟨n5, e5, p5, f5, j5, r5⟩ := cp1 (m := n4) (ls_k5 hs) (ls_k5 hd) (by omega) (by omega)
  have B5 : cpB b s d m n5 6 := cpB_s B4 hsd (by omega) (show 5 ≤ 5 by omega) (by omega) (by omega) (fun x a c => by exfalso; omega) (fun x i a c hi => by
    have : x = 5 := by omega
    subst this
    exact p5 i hi) (fun q hq => f5 q (by omega)) j5 r5
  obtain ⟨n6, e6, p6, f6, j6, r6⟩ := cp1 (m := n5) (ls_k6 hs) (ls_k6 hd) (by omega) (by omega)
  have B6 : cpB b s d m n6 7 := cpB_s B5 hsd (by omega) (show 6 ≤ 6 by omega) (by omega) (by omega) (fun x a c => by exfalso; omega) (fun x i a c hi => by
    have : x = 6 := by omega
    subst this
    exact p6 i hi) (fun q hq => f6 q (by omega)) j6 r6
  obtain ⟨n7, e7, p7, f7, j7, r7⟩ := cp2 (m := n6) (fun q => b + (s + 7 + 1 + q)) (fun q => b + (d + 7 + 1 + q)) (ls_k7 hs) (ls_k7 hd) (by rw [B6.2.2.2]; exact ls_r7 hs) (by rw [B6.2.2.2]; exact ls_r7 hd) (ls_e7 hs) (ls_e7 hd) (fun q hq => by omega) (fun p q hp hq => by omega) (fun p q hp hq hn => by omega) (by omega) (by omega)
  have B7 : cpB b s d m n7 14 := cpB_s B6 hsd (by omega) (show 7 ≤ 8 by omega) (by omega) (by omega) (fun x a c => by
    have : x = 7 := by omega
    subst this
    rfl) (fun x i a c hi => by
    obtain ⟨y, rfl⟩ : ∃ y, x = 8 + y := ⟨x - 8, by omega⟩
    have hN : sN (8 + y) = 6 := by
      unfold sN
      repeat (first | rw [if_pos (by omega)] | rw [if_neg (by omega)])
    rw [hN] at hi
    have k := p7 y i (by omega) hi
    rw [show b + (d + 7 + 1 + y) = b + (d + (8 + y)) by omega, show b + (s + 7 + 1 + y) = b + (s + (8 + y)) by omega] at k
    exact k) (fun q hq => f7 q (fun p hp => by omega)) j7 r7
  obtain ⟨n8, e8, p8, f8, j8, r8⟩ := cp2 (m := n7) (fun q => b + (s + 14 + 1 + q)) (fun q => b + (d + 14 + 1 + q)) (ls_k14 hs) (ls_k14 hd) (by rw [B7.2.2.2]; exact ls_r14 hs) (by rw [B7.2.2.2]; exact ls_r14 hd) (ls_e14 hs) (ls_e14 hd) (fun q hq => by omega) (fun p q hp hq => by omega) (fun p q hp hq hn => by omega) (by omega) (by omega)
  have B8 : cpB b s d m n8 21 := cpB_s B7 hsd (by omega) (show 14 ≤ 15 by omega) (by omega) (by omega) (fun x a c => by
    have : x = 14 := by omega
    subst this
    rfl) (fun x i a c hi => by
    obtain ⟨y, rfl⟩ : ∃ y, x = 15 + y := ⟨x - 15, by omega⟩
    have hN : sN (15 + y) = 2 := by
      unfold sN
      repeat (first | rw [if_pos (by omega)] | rw [if_neg (by omega)])
    rw [hN] at hi
    have k := p8 y i (by omega) hi
    rw [show b + (d + 14 + 1 + y) = b + (d + (15 + y)) by omega, show b + (s + 14 + 1 + y) = b + (s + (15 + y)) by omega] at k
    exact k) (fun q hq => f8 q (fun p hp => by omega)) j8 r8
  obtain ⟨n9, e9, p9, f9, j9, r9⟩ := cp2 (m := n8) (fun q => b + (s + 21 + 1 + q)) (fun q => b + (d + 21 + 1 + q)) (ls_k21 hs) (ls_k21 hd) (by rw [B8.2.2.2]; exact ls_r21 hs) (by rw [B8.2.2.2]; exact ls_r21 hd) (ls_e21 hs) (ls_e21 hd) (fun q hq => by omega) (fun p q hp hq => by omega) (fun p q hp hq hn => by omega) (by omega) (by omega)
  have B9 : cpB b s d m n9 30 := cpB_s B8 hsd (by omega) (show 21 ≤ 22 by omega) (by omega) (by omega) (fun x a c => by
    have : x = 21 := by omega
    subst this
    rfl) (fun x i a c hi => by
    obtain ⟨y, rfl⟩ : ∃ y, x = 22 + y := ⟨x - 22, by omega⟩
    have hN : sN (22 + y) = 2 := by
      unfold sN
      repeat (first | rw [if_pos (by omega)] | rw [if_neg (by omega)])
    rw [hN] at hi
    have k := p9 y i (by omega) hi
    rw [show b + (d + 21 + 1 + y) = b + (d + (22 + y)) by omega, show b + (s + 21 + 1 + y) = b + (s + (22 + y)) by omega] at k
    exact k) (fun q hq => f9 q (fun p hp => by omega)) j9 r9
  obtain ⟨n10, e10, p10, f10, j10, r10⟩ := cp2 (m := n9) (fun q => b + (s + 30 + 1 + q)) (fun q => b + (d + 30 + 1 + q)) (ls_k30 hs) (ls_k30 hd) (by rw [B9.2.2.2]; exact ls_r30 hs) (by rw [B9.2.2.2]; exact ls_r30 hd) (ls_e30 hs) (ls_e30 hd) (fun q hq => by omega) (fun p q hp hq => by omega) (fun p q hp hq hn => by omega) (by omega) (by omega)
  have B10 : cpB b s d m n10 39 := cpB_s B9 hsd (by omega) (show 30 ≤ 31 by omega) (by omega) (by omega) (fun x a c => by
    have : x = 30 := by omega
    subst this
    rfl) (fun x i a c hi => by
    obtain ⟨y, rfl⟩ : ∃ y, x = 31 + y := ⟨x - 31, by omega⟩
    have hN : sN (31 + y) = 2 := by
      unfold sN
      repeat (first | rw [if_pos (by omega)] | rw [if_neg (by omega)])
    rw [hN] at hi
    have k := p10 y i (by omega) hi
    rw [show b + (d + 30 + 1 + y) = b + (d + (31 + y)) by omega, show b + (s + 30 + 1 + y) = b + (s + (31 + y)) by omega] at k
    exact k) (fun q hq => f10 q (fun p hp => by omega)) j10 r10
  obtain ⟨n11, e11, p11, f11, j11, r11⟩ := cp2 (m := n10) (fun q => b + (s + 39 + 1 + q)) (fun q => b + (d + 39 + 1 + q)) (ls_k39 hs) (ls_k39 hd) (by rw [B10.2.2.2]; exact ls_r39 hs) (by rw [B10.2.2.2]; exact ls_r39 hd) (ls_e39 hs) (ls_e39 hd) (fun q hq => by omega) (fun p q hp hq => by omega) (fun p q hp hq hn => by omega) (by omega) (by omega)
  have B11 : cpB b s d m n11 70 := cpB_s B10 hsd (by omega) (show 39 ≤ 40 by omega) (by omega) (by omega) (fun x a c => by
    have : x = 39 := by omega
    subst this
    rfl) (fun x i a c hi => by
    obtain ⟨y, rfl⟩ : ∃ y, x = 40 + y := ⟨x - 40, by omega⟩
    have hN : sN (40 + y) = 116 := by
      unfold sN
      repeat (first | rw [if_pos (by omega)] | rw [if_neg (by omega)])
    rw [hN] at hi
    have k := p11 y i (by omega) hi
    rw [show b + (d + 39 + 1 + y) = b + (d + (40 + y)) by omega, show b + (s + 39 + 1 + y) = b + (s + (40 + y)) by omega] at k
    exact k) (fun q hq => f11 q (fun p hp => by omega)) j11 r11
  have n0 : (0 : Int32).toNatClampNeg = 0 := by decide
  have n4 : (4 : Int32).toNatClampNeg = 4 := by decide
  have R := B11.2.2.2
  have ks := ls_k70 hs
  have kd := ls_k70 hd
  have cp : zcpr 7 g n11 (some (b + (s + 70))) (0 : Int32) (some (b + (d + 70))) (0 : Int32) (4 : Int32) = some (n11.1, n11.2.1, zrow n11.2.2 (b + (d + 70)) (va_cpy (zR n11 (b + (s + 70))) (zR n11 (b + (d + 70))) 0 0 4)) := by
    have : zcpr 7 g n11 (some (b + (s + 70))) (0 : Int32) (some (b + (d + 70))) (0 : Int32) (4 : Int32) = some (n11.1, n11.2.1, zrow n11.2.2 (b + (d + 70)) (va_cpy (zR n11 (b + (s + 70))) (zR n11 (b + (d + 70))) (0 : Int32).toNatClampNeg (0 : Int32).toNatClampNeg (4 : Int32).toNatClampNeg)) := by
      refine if_pos ⟨⟨by rw [ks], by rw [kd]⟩, ⟨⟨by omega, by decide, by decide, by decide⟩, ?_, ?_⟩, ?_⟩
      · rw [n0, n4, ks]; decide
      · rw [n0, n4, kd]; decide
      · rw [n0, n4, R, List.all_eq_true]
        intro i hi
        have hi := List.mem_range.mp hi
        rw [Nat.zero_add]
        cases e : zR m (b + (s + 70)) i with
        | none => rfl
        | some x => exact htx i x hi e
    rw [this, n0, n4]
  obtain ⟨Z, eZ⟩ : ∃ Z : zMm, Z = (n11.1, n11.2.1, zrow n11.2.2 (b + (d + 70)) (va_cpy (zR n11 (b + (s + 70))) (zR n11 (b + (d + 70))) 0 0 4)) := ⟨_, rfl⟩
  rw [← eZ] at cp
  refine ⟨Z, ?_, by rw [eZ]; exact B11.1, by rw [eZ]; exact B11.2.1, by rw [eZ]; exact B11.2.2.1, fun q hq => ?_, fun k hk => ?_⟩
  · unfold f_X1_be
    rw [e_gr (ci := 1) os, ls_f0 hs, Option.bind_some, e_gr (ci := 1) od, ls_f0 hd, Option.bind_some, e1, Option.bind_some]
    rw [e_gr (ci := 1) os, B1.2.2.2, ls_f1 hs, Option.bind_some, e_gr (ci := 1) od, B1.2.2.2, ls_f1 hd, Option.bind_some, e2, Option.bind_some]
    rw [e_gr (ci := 1) os, B2.2.2.2, ls_f2 hs, Option.bind_some, e_gr (ci := 1) od, B2.2.2.2, ls_f2 hd, Option.bind_some, e3, Option.bind_some]
    rw [e_gr (ci := 1) os, B3.2.2.2, ls_f3 hs, Option.bind_some, e_gr (ci := 1) od, B3.2.2.2, ls_f3 hd, Option.bind_some, e4, Option.bind_some]
    rw [e_gr (ci := 1) os, B4.2.2.2, ls_f4 hs, Option.bind_some, e_gr (ci := 1) od, B4.2.2.2, ls_f4 hd, Option.bind_some, e5, Option.bind_some]
    rw [e_gr (ci := 1) os, B5.2.2.2, ls_f5 hs, Option.bind_some, e_gr (ci := 1) od, B5.2.2.2, ls_f5 hd, Option.bind_some, e6, Option.bind_some]
    rw [e_gr (ci := 1) os, B6.2.2.2, ls_f6 hs, Option.bind_some, e_gr (ci := 1) od, B6.2.2.2, ls_f6 hd, Option.bind_some, e7, Option.bind_some]
    rw [e_gr (ci := 1) os, B7.2.2.2, ls_f7 hs, Option.bind_some, e_gr (ci := 1) od, B7.2.2.2, ls_f7 hd, Option.bind_some, e8, Option.bind_some]
    rw [e_gr (ci := 1) os, B8.2.2.2, ls_f8 hs, Option.bind_some, e_gr (ci := 1) od, B8.2.2.2, ls_f8 hd, Option.bind_some, e9, Option.bind_some]
    rw [e_gr (ci := 1) os, B9.2.2.2, ls_f9 hs, Option.bind_some, e_gr (ci := 1) od, B9.2.2.2, ls_f9 hd, Option.bind_some, e10, Option.bind_some]
    rw [e_gr (ci := 1) os, B10.2.2.2, ls_f10 hs, Option.bind_some, e_gr (ci := 1) od, B10.2.2.2, ls_f10 hd, Option.bind_some, e11, Option.bind_some]
    rw [e_gr (ci := 1) os, R, ls_f11 hs, Option.bind_some, e_gr (ci := 1) od, R, ls_f11 hd, Option.bind_some, cp]; rfl
  · funext j
    rw [eZ]
    show zrow n11.2.2 (b + (d + 70)) (va_cpy (zR n11 (b + (s + 70))) (zR n11 (b + (d + 70))) 0 0 4) q j = zR m q j
    unfold zrow
    rw [if_neg hq, ← R]; rfl
  · rw [eZ]
    show zrow n11.2.2 (b + (d + 70)) (va_cpy (zR n11 (b + (s + 70))) (zR n11 (b + (d + 70))) 0 0 4) (b + (d + 70)) k = zR m (b + (s + 70)) k
    unfold zrow va_cpy
    rw [if_pos rfl, if_pos (by omega), R, show 0 + (k - 0) = k by omega]
/-- the model's whole row copied -/
theorem k_cp2 {S : zP} {c e : Nat} (hce : c ≠ e) : ∃ S', p_X2_copy S c 1450 e 1450 = some S' ∧ (∀ i, 0 ≤ i → i < 1450 → S' e i = S c i) ∧ ∀ q, q ≠ e → S' q = S q := by
  have lp : ∀ (r Fu : Nat) (j : Int) (T : zP), 0 ≤ j → j + (r : Int) = 1450 → r < Fu → (∀ i, 0 ≤ i → i < j → T e i = S c i) → (∀ q, q ≠ e → T q = S q) → ∃ S', zLoop (pb_X2_copy_2 c 1450 e 1450) Fu (j, T) = some S' ∧ (∀ i, 0 ≤ i → i < 1450 → S' e i = S c i) ∧ ∀ q, q ≠ e → S' q = S q := by
    intro r
    induction r with
    | zero =>
      intro Fu j T j0 hj hF h1 h2
      obtain ⟨Fu, rfl⟩ : ∃ F', Fu = F' + 1 := ⟨Fu - 1, by omega⟩
      refine ⟨T, zLoop_l (pw_to ?_), fun i a d => h1 i a (by omega), h2⟩
      unfold pb_X2_copy_2
      exact pw_ite (fun _ => pw_some rfl) (fun y => absurd (by omega) y)
    | succ r ih =>
      intro Fu j T j0 hj hF h1 h2
      obtain ⟨Fu, rfl⟩ : ∃ F', Fu = F' + 1 := ⟨Fu - 1, by omega⟩
      have pre : pb_X2_copy_2 c 1450 e 1450 (j, T) = some (.inr (j + 1, pup T e j (T c j))) := by
        refine pw_to ?_
        unfold pb_X2_copy_2
        exact pw_ite (fun y => by exfalso; omega) (fun _ => pw_ald (by omega) (by omega) (pw_ast (by omega) (by omega) (pw_p32 (by omega) (by omega) (pw_some rfl))))
      rw [zLoop_r pre]
      refine ih Fu (j + 1) _ (by omega) (by omega) (by omega) (fun i a d => ?_) (fun q hq => ?_)
      · by_cases y : i = j
        · subst y
          rw [pup_e rfl, h2 c hce]
        · rw [pup_k y]
          exact h1 i a (by omega)
      · rw [pup_r hq]; exact h2 q hq
  obtain ⟨S', e1, h⟩ := lp 1450 zFuel 0 S (by omega) (by omega) (by unfold zFuel; omega) (fun i a d => by omega) (fun _ _ => rfl)
  refine ⟨S', ?_, h⟩
  unfold p_X2_copy
  rw [e1]; rfl
end
section
variable {N R T H M Y N' R' T' H' M' Y' A A' : Int → Int} {sp gu sa to st sp' gu' sa' to' st' : Int → Int → Int}
theorem pSt_c (h : pSt N R T H M Y sp gu sa to st A) (e : ∀ i, 0 ≤ i → i < 1450 → A' i = A i) (fN : ∀ i, 0 ≤ i → i < 7 → N' i = N i) (fR : ∀ i, 0 ≤ i → i < 116 → R' i = R i) (fT : ∀ i, 0 ≤ i → i < 6 → T' i = T i) (fH : ∀ i, 0 ≤ i → i < 36 → H' i = H i) (fM : ∀ i, 0 ≤ i → i < 4 → M' i = M i) (fY : ∀ i, 0 ≤ i → i < 4 → Y' i = Y i) (f1 : ∀ a i, 0 ≤ a → a < 6 → 0 ≤ i → i < 6 → sp' a i = sp a i) (f2 : ∀ a i, 0 ≤ a → a < 6 → 0 ≤ i → i < 2 → gu' a i = gu a i) (f3 : ∀ a i, 0 ≤ a → a < 8 → 0 ≤ i → i < 2 → sa' a i = sa a i) (f4 : ∀ a i, 0 ≤ a → a < 8 → 0 ≤ i → i < 2 → to' a i = to a i) (f5 : ∀ a i, 0 ≤ a → a < 30 → 0 ≤ i → i < 116 → st' a i = st a i) : pSt N' R' T' H' M' Y' sp' gu' sa' to' st' A' := by
  obtain ⟨g1, g2, g3, g4, g5, g6, g7, g8, g9, g10, g11, g12⟩ := h
  have e0 := e 0 (by omega) (by omega)
  have k0 := g1.1.2.2
  have k4 := g1.2.2.2.2.1.2.2
  have k5 := g1.2.2.2.2.2.1.2.2
  have k6 := g1.2.2.2.2.2.2.2.2
  have k3 := g1.2.2.2.1.2.2
  unfold pSt
  rw [e0]
  exact ⟨pHd_c g1 (fun i a c => e i a (by omega)) fN, pCur_c k0 g2 (fun i a c => e i (by omega) (by omega)) (fun i a c => fR i a (by omega)), pBk_c g2.2.2.1.2 g3 (e 9 (by omega) (by omega)) (fun i a c => e i (by omega) c) (fun i a c => fR i (by omega) c), pTem_c k0 g4 e0 (fun i a c => e i (by omega) (by omega)) fT, pBeg_c k0 g5 e0 (fun i a c => e i (by omega) (by omega)), pSpi_c g6 (fun i a c => e i (by omega) (by omega)) f1, pHed_c g7 (fun i a c => e i (by omega) (by omega)) fH, pGue_c k4 g8 (e 4 (by omega) (by omega)) (fun i a c => e i (by omega) (by omega)) f2, pGai_c g9 (fun i a c => e i (by omega) (by omega)) fM fY, pSay_c k5 g10 (e 5 (by omega) (by omega)) (fun i a c => e i (by omega) (by omega)) f3, pTol_c k6 g11 (e 6 (by omega) (by omega)) (by rw [e0]; exact Int.le_refl _) (fun i a c => e i (by omega) (by omega)) f4, pSts_c k0 k3 g12 e0 (e 3 (by omega) (by omega)) (fun i a c => e i (by omega) (by omega)) (fun i a c => e i (by omega) (by omega)) f5⟩
end
section
variable {D : iD} {b : Nat} {g : zGd} {m : zMm}
/-- a state over the other: what the relation of the one says of the other -/
theorem pSt_cp {s d : Nat} {m' : zMm} {A A' : Int → Int} (hc : ∀ x i, x < 70 → i < sN x → zI m' (b + (d + x)) i = zI m (b + (s + x)) i) (hA : ∀ i, 0 ≤ i → i < 1450 → A' i = A i) (h : pSt (iC b m (s + 1)) (iC b m (s + 2)) (iC b m (s + 3)) (iC b m (s + 4)) (iC b m (s + 5)) (iC b m (s + 6)) (fun k => iC b m (s + 8 + k.toNat)) (fun k => iC b m (s + 15 + k.toNat)) (fun k => iC b m (s + 22 + k.toNat)) (fun k => iC b m (s + 31 + k.toNat)) (fun k => iC b m (s + 40 + k.toNat)) A) : pSt (iC b m' (d + 1)) (iC b m' (d + 2)) (iC b m' (d + 3)) (iC b m' (d + 4)) (iC b m' (d + 5)) (iC b m' (d + 6)) (fun k => iC b m' (d + 8 + k.toNat)) (fun k => iC b m' (d + 15 + k.toNat)) (fun k => iC b m' (d + 22 + k.toNat)) (fun k => iC b m' (d + 31 + k.toNat)) (fun k => iC b m' (d + 40 + k.toNat)) A' := by
  have k : ∀ (x : Nat) (i : Int), x < 70 → 0 ≤ i → i < (sN x : Int) → iC b m' (d + x) i = iC b m (s + x) i := fun x i hx h0 h1 => by
    rw [iC_e h0, iC_e h0, hc x i.toNat hx (by omega)]
  have r : ∀ (lo n N : Nat) (a i : Int), lo + n ≤ 70 → (∀ x, lo ≤ x → x < lo + n → sN x = N) → 0 ≤ a → a < (n : Int) → 0 ≤ i → i < (N : Int) → iC b m' (d + lo + a.toNat) i = iC b m (s + lo + a.toNat) i := fun lo n N a i h70 hN a0 a1 i0 i1 => by
    have e := hN (lo + a.toNat) (by omega) (by omega)
    rw [Nat.add_assoc, Nat.add_assoc]
    exact k (lo + a.toNat) i (by omega) i0 (by rw [e]; exact i1)
  have n8 : ∀ x, 8 ≤ x → x < 8 + 6 → sN x = 6 := fun x a c => by
    unfold sN
    repeat (first | rw [if_pos (by omega)] | rw [if_neg (by omega)])
  have n15 : ∀ x, 15 ≤ x → x < 15 + 6 → sN x = 2 := fun x a c => by
    unfold sN
    repeat (first | rw [if_pos (by omega)] | rw [if_neg (by omega)])
  have n22 : ∀ x, 22 ≤ x → x < 22 + 8 → sN x = 2 := fun x a c => by
    unfold sN
    repeat (first | rw [if_pos (by omega)] | rw [if_neg (by omega)])
  have n31 : ∀ x, 31 ≤ x → x < 31 + 8 → sN x = 2 := fun x a c => by
    unfold sN
    repeat (first | rw [if_pos (by omega)] | rw [if_neg (by omega)])
  have n40 : ∀ x, 40 ≤ x → x < 40 + 30 → sN x = 116 := fun x a c => by
    unfold sN
    repeat (first | rw [if_pos (by omega)] | rw [if_neg (by omega)])
  exact pSt_c h hA (fun i a c => k 1 i (by omega) a c) (fun i a c => k 2 i (by omega) a c) (fun i a c => k 3 i (by omega) a c) (fun i a c => k 4 i (by omega) a c) (fun i a c => k 5 i (by omega) a c) (fun i a c => k 6 i (by omega) a c) (fun a i a0 a1 i0 i1 => r 8 6 6 a i (by omega) n8 a0 a1 i0 i1) (fun a i a0 a1 i0 i1 => r 15 6 2 a i (by omega) n15 a0 a1 i0 i1) (fun a i a0 a1 i0 i1 => r 22 8 2 a i (by omega) n22 a0 a1 i0 i1) (fun a i a0 a1 i0 i1 => r 31 8 2 a i (by omega) n31 a0 a1 i0 i1) (fun a i a0 a1 i0 i1 => r 40 30 116 a i (by omega) n40 a0 a1 i0 i1)
theorem iV_asok (h : iV D b g m) {t x : Nat} (ht : t < 4) (hx : zR m (b + 71) t = some x ∨ zR m (b + 142) t = some x) : zAsOk 7 (zK g x).1 = true := by
  obtain ⟨⟨Cl, C⟩, hz⟩ := h.2.2.2.2.1.2.2 t x ht hx
  rw [(h.2.2.1 x Cl C hz).1.2]; decide
theorem c_image (h : iV D b g m) : ∃ u m1 m2, f_X0_image g m (some b) = some (u, m1) ∧ f_X2_image g m1 (some (b + 151)) = some (u, m2) ∧ iV D b g m2 := by
  have hr := iV_rel h
  have hL := iV_lc h
  have hbz := lc_b hL
  have kb : (zK g b).1 = 0 + 1 := lc_o hL
  have n7 := hr.1.2.1.1.1
  obtain ⟨m1, e1, p1, p2, p3, p4, p5⟩ := be_go (lc_s1 hL) (lc_s72 hL) (by omega) hbz (fun t x ht hx => iV_asok h ht (Or.inl hx))
  have p2' : ∀ q, (q ≤ b + 72 ∨ b + 142 ≤ q) → zI m1 q = zI m q := fun q hq => p2 q (by omega)
  have hM1 : iM b m1 = iM b m := iM_all (fun a ha => ⟨p2' a (by omega), by rw [p3]⟩)
  have L1 : pLM g (zR m1) (b + 151) := by
    have := iV_lm h
    unfold pLM at this ⊢
    rw [p4 (b + 151 + 0) (by omega)]; exact this
  have c0 : f_X0_image g m (some b) = some (zI m (b + 3) 0, m1) := by
    unfold f_X0_image
    rw [e_gr (ci := 0) kb, show zR m b 1 = some (b + 72) from lc_f1 hL, Option.bind_some, e_gr (ci := 0) kb, show zR m b 0 = some (b + 1) from lc_f0 hL, Option.bind_some, e_rc (ci := 1) (show (zK g (b + 72)).1 = 1 + 1 from ls_o (lc_s72 hL)), e1, Option.bind_some, e_gr (ci := 0) kb, p4 b (by omega), show zR m b 0 = some (b + 1) from lc_f0 hL, Option.bind_some, e_gr (ci := 1) (show (zK g (b + 1)).1 = 1 + 1 from ls_o (lc_s1 hL)), p4 (b + 1) (by omega), show zR m (b + 1) 1 = some (b + 3) from ls_f1 (lc_s1 hL), Option.bind_some, e_ald (x := 0) (show zK g (b + 3) = (101, 116) from ls_k2 (lc_s1 hL)) (show (0 : Int32).toInt = 0 by decide) (by omega) (by omega), Option.bind_some, p2' (b + 3) (by omega)]
    rfl
  obtain ⟨S', s1, s2, s3⟩ := k_cp2 (S := iM b m1) (c := 1) (e := 2) (by omega)
  have pM : p_X2_image (iM b m1) = some (iM b m1 1 7, S') := by
    refine pw_to ?_
    unfold p_X2_image
    refine pw_beq s1 (pw_ald (by omega) (by omega) ?_)
    rw [s3 1 (by omega)]
    exact pw_some rfl
  obtain ⟨⟨u, m2⟩, f2, a1, a2, a3⟩ := rf_X2_image (M := b + 151) L1 (pOk.rf (m := m1)) _ pM
  have a1 : iM b m1 1 7 = u.toInt := a1
  have hS : S' = iM b m2 := a2
  have hu : u = zI m (b + 3) 0 := Int32.toInt_inj.mp (by
    rw [← a1, hM1, ← n7]
    exact iC_e (b := b) (m := m) (c := 3) (i := 0) (by omega))
  subst hu
  have R2 : zR m2 = zR m1 := a3.2
  have I2 : ∀ a, (a < b + 151 ∨ b + 167 ≤ a ∨ a = b + 154) → zI m2 a = zI m1 a ∧ zJ m2 a = zJ m1 a := fun a ha => oM_I a3 ha
  have fR : ∀ q, q ≠ b + 142 → zR m2 q = zR m q := fun q hq => by rw [R2]; exact p4 q hq
  have fI : ∀ q, (q ≤ b + 72 ∨ (b + 142 ≤ q ∧ q < b + 151) ∨ b + 167 ≤ q ∨ q = b + 154) → zI m2 q = zI m q := fun q hq => (I2 q (by omega)).1.trans (p2' q (by omega))
  have eC : ∀ c, (c ≤ 71 ∨ (143 ≤ c ∧ c < 151)) → iC b m2 c = iC b m c := fun c hc => iC_eq (fI _ (by omega))
  have eM : ∀ c, c ≠ 2 → iM b m2 c = iM b m c := fun c hc => by rw [← hS, s3 c hc, hM1]
  have eM2 : ∀ i, 0 ≤ i → i < 1450 → iM b m2 2 i = iM b m 1 i := fun i x y => by rw [← hS, s2 i x y, hM1]
  obtain ⟨⟨a1', a2', a3', a4'⟩, b1, d1, t1, ⟨i1, i2, i3⟩, gm, r1⟩ := h
  have ag : agF (iF b g) g m g m2 := ⟨rfl, rfl, fun q hq => by
    have hq : q < b ∨ b + 167 ≤ q := by
      rcases hq with (y | y) | y <;> omega
    exact ⟨rfl, fI q (by omega), fR q (by omega)⟩⟩
  have D1 : ∀ x Cl C, D x = some (Cl, C) → txL (iF b g) g m2 x Cl C := fun x Cl C hx => txL_c (d1 x Cl C hx) (fun _ y => y) ag
  have T1 : ∀ t : Int, 0 ≤ t → t < iM b m2 1 1 → ∃ x Cl C, zR m2 (b + 71) t.toNat = some x ∧ D x = some (Cl, C) ∧ txD (iF b g) g m2 x Cl ∧ qTx (iM b m2) (681 * t) Cl C := fun t t0 t2 => by
    rw [eM 1 (by omega)] at t2
    obtain ⟨x, Cl, C, h1, h2, h3, h4⟩ := t1 t t0 t2
    refine ⟨x, Cl, C, by rw [fR _ (by omega)]; exact h1, h2, txD_c h3 (fun _ y => y) ag, ?_⟩
    unfold qTx pCd at h4 ⊢
    rw [eM 3 (by omega)]; exact h4
  have tl := r1.1.1.2.1
  refine ⟨_, m1, m2, c0, f2, ⟨?_, ?_, a3', cW_c ⟨rfl, rfl, fun q hq => ⟨rfl, fI q (by omega), fR q (by omega)⟩⟩ a4'⟩, b1, D1, T1, ⟨?_, fun t t0 t2 => ?_, fun t x ht hx => ?_⟩, ?_, ?_, ?_, ?_, ?_⟩
  · unfold pLC pLS at a1' ⊢
    simp only [fR (b + 0) (by omega), fR (b + 1) (by omega), fR (b + 72) (by omega), fR (b + (1 + 7)) (by omega), fR (b + (1 + 14)) (by omega), fR (b + (1 + 21)) (by omega), fR (b + (1 + 30)) (by omega), fR (b + (1 + 39)) (by omega), fR (b + (72 + 7)) (by omega), fR (b + (72 + 14)) (by omega), fR (b + (72 + 21)) (by omega), fR (b + (72 + 30)) (by omega), fR (b + (72 + 39)) (by omega)]
    exact a1'
  · unfold pLM at a2' ⊢
    rw [fR (b + 151 + 0) (by omega)]; exact a2'
  · rw [eM 1 (by omega), eM2 1 (by omega) (by omega)]; exact Int.le_refl _
  · rw [eM2 1 (by omega) (by omega)] at t2
    rw [fR (b + 71) (by omega), R2]
    exact p5 t.toNat (by omega)
  · rcases hx with y | y
    · rw [fR (b + 71) (by omega)] at y
      exact i3 t x ht (Or.inl y)
    · rw [R2] at y
      exact i3 t x ht (Or.inl ((p5 t ht).symm.trans y))
  · unfold gMem at gm ⊢
    rw [eC 150 (by omega)]; exact gm
  · exact pNow_e r1.1 (fun c x y => eC c (by omega)) (eM 1 (by omega))
  · have := pSt_cp (b := b) (m := m) (m' := m2) (s := 1) (d := 72) (A := iM b m 1) (A' := iM b m2 2) (fun x i hx hi => by rw [(I2 _ (by omega)).1]; exact p1 x i hx hi) eM2 r1.1
    exact this
  · exact pMis_e r1.2.2.1 (by rw [eC 0 (by omega)]) (by rw [eC 0 (by omega)]) (by rw [eC 0 (by omega)]) (by rw [eM 0 (by omega)]) (by rw [eM 0 (by omega)]) (by rw [eM 0 (by omega)]) (by rw [eM 0 (by omega)]) (eC 143 (by omega)) (eM 4 (by omega))
  · exact iV_tx b1 D1 (fun t t0 t2 => by
      obtain ⟨x, Cl, C, h1, h2, h3, h4⟩ := T1 t t0 t2
      exact ⟨x, Cl, C, h1, h2, h4⟩)
theorem c_back (h : iV D b g m) : ∃ u m1 m2, f_X0_back g m (some b) = some (u, m1) ∧ f_X2_back g m1 (some (b + 151)) = some (u, m2) ∧ iV D b g m2 := by
  have hr := iV_rel h
  have hL := iV_lc h
  have hbz := lc_b hL
  have kb : (zK g b).1 = 0 + 1 := lc_o hL
  have n7 := hr.2.1.2.1.1.1
  obtain ⟨m1, e1, p1, p2, p3, p4, p5⟩ := be_go (lc_s72 hL) (lc_s1 hL) (by omega) hbz (fun t x ht hx => iV_asok h ht (Or.inr hx))
  have p2' : ∀ q, (q ≤ b + 1 ∨ b + 71 ≤ q) → zI m1 q = zI m q := fun q hq => p2 q (by omega)
  have hM1 : iM b m1 = iM b m := iM_all (fun a ha => ⟨p2' a (by omega), by rw [p3]⟩)
  have L1 : pLM g (zR m1) (b + 151) := by
    have := iV_lm h
    unfold pLM at this ⊢
    rw [p4 (b + 151 + 0) (by omega)]; exact this
  have v30 : zI m1 (b + 3) 0 = zI m (b + 74) 0 := p1 2 0 (by omega) (by decide)
  have c0 : f_X0_back g m (some b) = some (zI m (b + 74) 0, m1) := by
    unfold f_X0_back
    rw [e_gr (ci := 0) kb, show zR m b 0 = some (b + 1) from lc_f0 hL, Option.bind_some, e_gr (ci := 0) kb, show zR m b 1 = some (b + 72) from lc_f1 hL, Option.bind_some, e_rc (ci := 1) (show (zK g (b + 1)).1 = 1 + 1 from ls_o (lc_s1 hL)), e1, Option.bind_some, e_gr (ci := 0) kb, p4 b (by omega), show zR m b 0 = some (b + 1) from lc_f0 hL, Option.bind_some, e_gr (ci := 1) (show (zK g (b + 1)).1 = 1 + 1 from ls_o (lc_s1 hL)), p4 (b + 1) (by omega), show zR m (b + 1) 1 = some (b + 3) from ls_f1 (lc_s1 hL), Option.bind_some, e_ald (x := 0) (show zK g (b + 3) = (101, 116) from ls_k2 (lc_s1 hL)) (show (0 : Int32).toInt = 0 by decide) (by omega) (by omega), Option.bind_some]
    show some (zI m1 (b + 3) 0, m1) = _
    rw [v30]
  obtain ⟨S', s1, s2, s3⟩ := k_cp2 (S := iM b m1) (c := 2) (e := 1) (by omega)
  have pM : p_X2_back (iM b m1) = some (iM b m1 2 7, S') := by
    refine pw_to ?_
    unfold p_X2_back
    refine pw_beq s1 (pw_ald (by omega) (by omega) ?_)
    rw [s2 7 (by omega) (by omega)]
    exact pw_some rfl
  obtain ⟨⟨u, m2⟩, f2, a1, a2, a3⟩ := rf_X2_back (M := b + 151) L1 (pOk.rf (m := m1)) _ pM
  have a1 : iM b m1 2 7 = u.toInt := a1
  have hS : S' = iM b m2 := a2
  have hu : u = zI m (b + 74) 0 := Int32.toInt_inj.mp (by
    rw [← a1, hM1, ← n7]
    exact iC_e (b := b) (m := m) (c := 74) (i := 0) (by omega))
  subst hu
  have R2 : zR m2 = zR m1 := a3.2
  have I2 : ∀ a, (a < b + 151 ∨ b + 167 ≤ a ∨ a = b + 154) → zI m2 a = zI m1 a ∧ zJ m2 a = zJ m1 a := fun a ha => oM_I a3 ha
  have fR : ∀ q, q ≠ b + 71 → zR m2 q = zR m q := fun q hq => by rw [R2]; exact p4 q hq
  have fI : ∀ q, (q ≤ b + 1 ∨ (b + 71 ≤ q ∧ q < b + 151) ∨ b + 167 ≤ q ∨ q = b + 154) → zI m2 q = zI m q := fun q hq => (I2 q (by omega)).1.trans (p2' q (by omega))
  have eC : ∀ c, (c ≤ 1 ∨ (71 ≤ c ∧ c < 151)) → iC b m2 c = iC b m c := fun c hc => iC_eq (fI _ (by omega))
  have eM : ∀ c, c ≠ 1 → iM b m2 c = iM b m c := fun c hc => by rw [← hS, s3 c hc, hM1]
  have eM2 : ∀ i, 0 ≤ i → i < 1450 → iM b m2 1 i = iM b m 2 i := fun i x y => by rw [← hS, s2 i x y, hM1]
  obtain ⟨⟨a1', a2', a3', a4'⟩, b1, d1, t1, ⟨i1, i2, i3⟩, gm, r1⟩ := h
  have ag : agF (iF b g) g m g m2 := ⟨rfl, rfl, fun q hq => by
    have hq : q < b ∨ b + 167 ≤ q := by
      rcases hq with (y | y) | y <;> omega
    exact ⟨rfl, fI q (by omega), fR q (by omega)⟩⟩
  have tl := r1.1.1.2.1
  have tl2 := r1.2.1.1.2.1
  have x71 : ∀ t : Nat, t < 4 → zR m2 (b + 71) t = zR m (b + 142) t := fun t ht => by rw [R2]; exact p5 t ht
  have D1 : ∀ x Cl C, D x = some (Cl, C) → txL (iF b g) g m2 x Cl C := fun x Cl C hx => txL_c (d1 x Cl C hx) (fun _ y => y) ag
  have T1 : ∀ t : Int, 0 ≤ t → t < iM b m2 1 1 → ∃ x Cl C, zR m2 (b + 71) t.toNat = some x ∧ D x = some (Cl, C) ∧ txD (iF b g) g m2 x Cl ∧ qTx (iM b m2) (681 * t) Cl C := fun t t0 t2 => by
    rw [eM2 1 (by omega) (by omega)] at t2
    obtain ⟨x, Cl, C, h1, h2, h3, h4⟩ := t1 t t0 (by omega)
    refine ⟨x, Cl, C, ?_, h2, txD_c h3 (fun _ y => y) ag, ?_⟩
    · rw [x71 _ (by omega), i2 t t0 t2]; exact h1
    · unfold qTx pCd at h4 ⊢
      rw [eM 3 (by omega)]; exact h4
  refine ⟨_, m1, m2, c0, f2, ⟨?_, ?_, a3', cW_c ⟨rfl, rfl, fun q hq => ⟨rfl, fI q (by omega), fR q (by omega)⟩⟩ a4'⟩, b1, D1, T1, ⟨?_, fun t t0 t2 => ?_, fun t x ht hx => ?_⟩, ?_, ?_, ?_, ?_, ?_⟩
  · unfold pLC pLS at a1' ⊢
    simp only [fR (b + 0) (by omega), fR (b + 1) (by omega), fR (b + 72) (by omega), fR (b + (1 + 7)) (by omega), fR (b + (1 + 14)) (by omega), fR (b + (1 + 21)) (by omega), fR (b + (1 + 30)) (by omega), fR (b + (1 + 39)) (by omega), fR (b + (72 + 7)) (by omega), fR (b + (72 + 14)) (by omega), fR (b + (72 + 21)) (by omega), fR (b + (72 + 30)) (by omega), fR (b + (72 + 39)) (by omega)]
    exact a1'
  · unfold pLM at a2' ⊢
    rw [fR (b + 151 + 0) (by omega)]; exact a2'
  · rw [eM 2 (by omega), eM2 1 (by omega) (by omega)]; exact Int.le_refl _
  · rw [eM 2 (by omega)] at t2
    rw [fR (b + 142) (by omega), x71 _ (by omega)]
  · have y : zR m (b + 142) t = some x := by
      rcases hx with y | y
      · rw [x71 t ht] at y; exact y
      · rw [fR (b + 142) (by omega)] at y; exact y
    exact i3 t x ht (Or.inr y)
  · unfold gMem at gm ⊢
    rw [eC 150 (by omega)]; exact gm
  · have := pSt_cp (b := b) (m := m) (m' := m2) (s := 72) (d := 1) (A := iM b m 2) (A' := iM b m2 1) (fun x i hx hi => by rw [(I2 _ (by omega)).1]; exact p1 x i hx hi) eM2 r1.2.1
    exact this
  · exact pImg_e r1.2.1 (fun c x y => eC c (by omega)) (eM 2 (by omega))
  · exact pMis_e r1.2.2.1 (by rw [eC 0 (by omega)]) (by rw [eC 0 (by omega)]) (by rw [eC 0 (by omega)]) (by rw [eM 0 (by omega)]) (by rw [eM 0 (by omega)]) (by rw [eM 0 (by omega)]) (by rw [eM 0 (by omega)]) (eC 143 (by omega)) (eM 4 (by omega))
  · exact iV_tx b1 D1 (fun t t0 t2 => by
      obtain ⟨x, Cl, C, h1, h2, h3, h4⟩ := T1 t t0 t2
      exact ⟨x, Cl, C, h1, h2, h4⟩)
end
