/-! COMPONENT READING: the world -/
set_option maxRecDepth 100000
section
variable {g : zGd} {m : zMm} {a ci k t n : Nat}
theorem e_gi (h : (zK g a).1 = ci + 1) : zgi g m ci k (some a) = some (zI m a k) := if_pos h
theorem e_gr (h : (zK g a).1 = ci + 1) : zgr g m ci k (some a) = some (zR m a k) := if_pos h
theorem e_pi (h : (zK g a).1 = ci + 1) (hb : zB g ≤ a) (v : Int32) : zpi g m ci k (some a) v = some (zsI m a k v) := if_pos ⟨h, hb⟩
theorem e_pr (h : (zK g a).1 = ci + 1) (hb : zB g ≤ a) (v : Option Nat) : zpr g m ci k (some a) v = some (zsR m a k v) := if_pos ⟨h, hb⟩
theorem e_rc {β : Type} (h : (zK g a).1 = ci + 1) (o : Option β) : zrc g ci (some a) o = o := if_pos h
theorem e_ix {i : Int32} {x : Int} (hx : i.toInt = x) (h0 : 0 ≤ x) (h1 : x < (n : Int)) : ¬ (i < 0 ∨ n ≤ i.toNatClampNeg) ∧ i.toNatClampNeg = x.toNat := by
  have e : i.toNatClampNeg = i.toInt.toNat := rfl
  refine ⟨fun h => ?_, by rw [e, hx]⟩
  rcases h with h | h
  · have := Int32.lt_iff_toInt_lt.mp h
    have z : (0 : Int32).toInt = 0 := by decide
    omega
  · rw [e] at h; omega
theorem e_ald {i : Int32} {x : Int} (h : zK g a = (t, n)) (hx : i.toInt = x) (h0 : 0 ≤ x) (h1 : x < (n : Int)) : zald t g m (some a) i = some (zI m a x.toNat) := by
  obtain ⟨p, q⟩ := e_ix hx h0 h1
  rw [← q]
  refine if_pos ⟨by rw [h], ?_⟩
  rw [h]; exact p
theorem e_aldr {i : Int32} {x : Int} (h : zK g a = (t, n)) (hx : i.toInt = x) (h0 : 0 ≤ x) (h1 : x < (n : Int)) : zaldr t g m (some a) i = some (zR m a x.toNat) := by
  obtain ⟨p, q⟩ := e_ix hx h0 h1
  rw [← q]
  refine if_pos ⟨by rw [h], ?_⟩
  rw [h]; exact p
theorem e_alen (h : zK g a = (t, n)) (ht : 101 ≤ t ∧ t ≤ 110) : zalen g (some a) = some (Int32.ofNat n) := by
  refine (if_pos (by rw [h]; exact ht)).trans ?_
  rw [h]
theorem i32_n {n : Nat} (h : n < 2147483648) : (Int32.ofNat n).toInt = (n : Int) := Int32.toInt_ofNat_of_lt (by omega)
theorem i_eq {v c : Int32} {x y : Int} (h : v.toInt = x) (hc : c.toInt = y) : v = c ↔ x = y := by rw [← h, ← hc]; exact Int32.toInt_inj.symm
theorem i_lt {v c : Int32} {x y : Int} (h : v.toInt = x) (hc : c.toInt = y) : v < c ↔ x < y := by rw [← h, ← hc]; exact Int32.lt_iff_toInt_lt
theorem i_le {v c : Int32} {x y : Int} (h : v.toInt = x) (hc : c.toInt = y) : v ≤ c ↔ x ≤ y := by rw [← h, ← hc]; exact Int32.le_iff_toInt_le
theorem i_add {v c : Int32} {x y : Int} (h : v.toInt = x) (hc : c.toInt = y) (h0 : -2147483648 ≤ x + y) (h1 : x + y ≤ 2147483647) : (v + c).toInt = x + y := by
  have e : v + c = Int32.ofInt (x + y) := by rw [Int32.ofInt_add, ← h, ← hc, Int32.ofInt_toInt, Int32.ofInt_toInt]
  rw [e]; exact Int32.toInt_ofInt_of_le (by omega) (by omega)
theorem i_sub {v c : Int32} {x y : Int} (h : v.toInt = x) (hc : c.toInt = y) (h0 : -2147483648 ≤ x - y) (h1 : x - y ≤ 2147483647) : (v - c).toInt = x - y := by
  have e : v - c = Int32.ofInt (x - y) := by rw [Int32.ofInt_sub, ← h, ← hc, Int32.ofInt_toInt, Int32.ofInt_toInt]
  rw [e]; exact Int32.toInt_ofInt_of_le (by omega) (by omega)
theorem i_mul {v c : Int32} {x y : Int} (h : v.toInt = x) (hc : c.toInt = y) (h0 : -2147483648 ≤ x * y) (h1 : x * y ≤ 2147483647) : (v * c).toInt = x * y := by
  have e : v * c = Int32.ofInt (x * y) := by rw [Int32.ofInt_mul, ← h, ← hc, Int32.ofInt_toInt, Int32.ofInt_toInt]
  rw [e]; exact Int32.toInt_ofInt_of_le (by omega) (by omega)
theorem i_shr0 (v : Int32) : zshr v 0 = v := by
  unfold zshr
  have e : ((0 : Int32) &&& 31) = 0 := by decide
  rw [e]
  exact Int32.shiftRight_zero
theorem i_and255 {v : Int32} {x : Int} (h : v.toInt = x) (h0 : 0 ≤ x) (h1 : x < 128) : zi2c (v &&& 255) = v ∧ zi2c v = v := by
  have key : ∀ t : Fin 128, zi2c (Int32.ofInt ((t.val : Nat) : Int) &&& 255) = Int32.ofInt ((t.val : Nat) : Int) ∧ zi2c (Int32.ofInt ((t.val : Nat) : Int)) = Int32.ofInt ((t.val : Nat) : Int) := by decide +kernel
  have e : v = Int32.ofInt x := by rw [← h, Int32.ofInt_toInt]
  have k := key ⟨x.toNat, by omega⟩
  rw [show (((⟨x.toNat, by omega⟩ : Fin 128).val : Nat) : Int) = x from Int.toNat_of_nonneg h0, ← e] at k
  exact k
end
/-- a text constant: its letters -/
def cStr (g : zGd) (m : zMm) (s : Nat) (l : List Int) : Prop := s < zB g ∧ (zK g s).1 = 19 ∧ zI m s 1 = 0 ∧ ∃ b, zR m s 0 = some b ∧ b < zB g ∧ zK g b = (102, l.length) ∧ ∀ j : Nat, j < l.length → (zI m b j).toInt = l.getD j 0
def cNd : List Int := [207, 220, 221, 208, 222, 223, 224]
/-- what is there from the start -/
def cW (g : zGd) (m : zMm) : Prop :=
  (∃ a, zS g 1 = some a ∧ a < zB g ∧ zK g a = (109, 25) ∧ ∀ i : Nat, i < 25 → ∃ s, zR m a i = some s ∧ cStr g m s (lWs.getD i [])) ∧
  (∃ s, zS g 10 = some s ∧ cStr g m s lSs) ∧
  (∃ a, zS g 2 = some a ∧ a < zB g ∧ zK g a = (101, 7) ∧ ∀ j : Nat, j < 7 → (zI m a j).toInt = cNd.getD j 0) ∧
  (∃ a, zS g 3 = some a ∧ a < zB g ∧ zK g a = (105, 0)) ∧
  (∃ a, zS g 4 = some a ∧ a < zB g ∧ zK g a = (110, 256) ∧ ∀ j : Nat, j < 256 → ∃ q, zR m a j = some q ∧ q < zB g ∧ (zK g q).1 = 20 ∧ (zI m q 0).toInt = (j : Int) - 128)
/-- what lies below the base stays -/
def cBs (g : zGd) (m : zMm) (g' : zGd) (m' : zMm) : Prop := zB g' = zB g ∧ zS g' = zS g ∧ ∀ q, q < zB g → zK g' q = zK g q ∧ zI m' q = zI m q ∧ zR m' q = zR m q
theorem cStr_c {g g' : zGd} {m m' : zMm} (h : cBs g m g' m') {s : Nat} {l : List Int} (k : cStr g m s l) : cStr g' m' s l := by
  obtain ⟨k1, k2, k3, b, k4, k5, k6, k7⟩ := k
  obtain ⟨h1, h2, h3⟩ := h
  have hs := h3 s k1
  have hb := h3 b k5
  refine ⟨by rw [h1]; exact k1, by rw [hs.1]; exact k2, by rw [hs.2.1]; exact k3, b, by rw [hs.2.2]; exact k4, by rw [h1]; exact k5, by rw [hb.1]; exact k6, fun j hj => by rw [hb.2.1]; exact k7 j hj⟩
theorem cW_c {g g' : zGd} {m m' : zMm} (h : cBs g m g' m') (k : cW g m) : cW g' m' := by
  have hh := h
  obtain ⟨h1, h2, h3⟩ := h
  obtain ⟨⟨a1, b1, c1, d1, e1⟩, ⟨a2, b2, c2⟩, ⟨a3, b3, c3, d3, e3⟩, ⟨a4, b4, c4, d4⟩, a5, b5, c5, d5, e5⟩ := k
  refine ⟨⟨a1, by rw [h2]; exact b1, by rw [h1]; exact c1, by rw [(h3 a1 c1).1]; exact d1, fun i hi => ?_⟩, ⟨a2, by rw [h2]; exact b2, cStr_c hh c2⟩, ⟨a3, by rw [h2]; exact b3, by rw [h1]; exact c3, by rw [(h3 a3 c3).1]; exact d3, fun j hj => by rw [(h3 a3 c3).2.1]; exact e3 j hj⟩, ⟨a4, by rw [h2]; exact b4, by rw [h1]; exact c4, by rw [(h3 a4 c4).1]; exact d4⟩, a5, by rw [h2]; exact b5, by rw [h1]; exact c5, by rw [(h3 a5 c5).1]; exact d5, fun j hj => ?_⟩
  · obtain ⟨s, s1, s2⟩ := e1 i hi
    exact ⟨s, by rw [(h3 a1 c1).2.2]; exact s1, cStr_c hh s2⟩
  · obtain ⟨q, q1, q2, q3, q4⟩ := e5 j hj
    exact ⟨q, by rw [(h3 a5 c5).2.2]; exact q1, by rw [h1]; exact q2, by rw [(h3 q q2).1]; exact q3, by rw [(h3 q q2).2.1]; exact q4⟩
section
variable {g : zGd} {m : zMm} {s : Nat} {l : List Int}
theorem c_length (h : cStr g m s l) : f_J3_length g m (some s) = some (Int32.ofNat l.length) := by
  obtain ⟨k1, k2, k3, b, k4, k5, k6, k7⟩ := h
  have hc : f_J3_coder g m (some s) = some 0 := by
    unfold f_J3_coder
    rw [if_neg (by decide), e_gi (ci := 18) k2, k3]
    rfl
  unfold f_J3_length
  rw [e_gr (ci := 18) k2, k4]
  dsimp only [Option.bind_some]
  rw [e_alen k6 (by omega)]
  dsimp only [Option.bind_some]
  rw [e_rc (ci := 18) k2, hc]
  dsimp only [Option.bind_some]
  rw [i_shr0]
theorem c_charAt (h : cStr g m s l) (hl : ∀ x ∈ l, 0 ≤ x ∧ x < 128) (hlen : l.length < 1000) {i : Int32} {x : Int} (hx : i.toInt = x) (x0 : 0 ≤ x) (x1 : x < (l.length : Int)) : ∃ v : Int32, f_J3_charAt g m (some s) i = some (v, g, m) ∧ v.toInt = l.getD x.toNat 0 := by
  obtain ⟨k1, k2, k3, b, k4, k5, k6, k7⟩ := h
  have hv := k7 x.toNat (by omega)
  have hm : l.getD x.toNat 0 ∈ l := by
    rw [List.getD_eq_getElem?_getD, List.getElem?_eq_getElem (by omega)]
    exact List.getElem_mem _
  have hr := hl _ hm
  obtain ⟨w1, w2⟩ := i_and255 hv hr.1 hr.2
  refine ⟨zI m b x.toNat, ?_, hv⟩
  have e1 : f_J3_isLatin1 g m (some s) = some 1 := by
    unfold f_J3_isLatin1
    rw [if_neg (by decide), e_gi (ci := 18) k2, k3]
    rfl
  have n0 : (0 : Int32).toInt = 0 := by decide
  have e2 : f_J3_checkIndex g m i (Int32.ofNat l.length) = some () := by
    unfold f_J3_checkIndex f_J5_checkIndex zEx
    rw [if_neg (fun y => by have := (i_lt hx n0).mp y; omega), if_pos ((i_lt hx (i32_n (by omega))).mpr x1)]
    rfl
  have e3 : f_J4_charAt g m (some b) i = some (zI m b x.toNat) := by
    unfold f_J4_charAt
    rw [e_alen k6 (by omega)]
    dsimp only [Option.bind_some]
    rw [e2]
    dsimp only [Option.bind_some]
    rw [e_ald k6 hx x0 x1]
    dsimp only [Option.bind_some]
    rw [w1]
    have : zch (zI m b x.toNat) = some (zI m b x.toNat) := if_pos w2
    rw [this]; rfl
  unfold f_J3_charAt
  rw [e_rc (ci := 18) k2, e1]
  dsimp only [Option.bind_some]
  rw [if_neg (by decide), e_gr (ci := 18) k2, k4]
  dsimp only [Option.bind_some]
  rw [e3]
  dsimp only [Option.bind_some]
  have : zch (zI m b x.toNat) = some (zI m b x.toNat) := if_pos w2
  rw [this]; rfl
end
