/-! COMPONENT READING: what a reference means -/
set_option maxRecDepth 100000
def agF (F : Nat → Prop) (g : zGd) (m : zMm) (g' : zGd) (m' : zMm) : Prop := zB g' = zB g ∧ zS g' = zS g ∧ ∀ q, (F q ∨ q < zB g) → zK g' q = zK g q ∧ zI m' q = zI m q ∧ zR m' q = zR m q
/-- the names as they are -/
def nmA (g : zGd) (m : zMm) (a : Nat) (nm : Int → Int) : Prop := zK g a = (101, 19) ∧ ∀ i : Nat, i < 19 → (zI m a i).toInt = nm (i : Int)
def vS (D : Nat) (F : Nat → Prop) (g : zGd) (m : zMm) (p : Nat) (L : aC) : Prop :=
  (F p ∧ ((zK g p).1 = 7 ∨ (zK g p).1 = 8 ∨ (zK g p).1 = 12 ∨ (zK g p).1 = 13 ∨ (zK g p).1 = 14 ∨ (zK g p).1 = 15 ∨ (zK g p).1 = 16)) ∧
  ∀ nm : Int → Int, ∃ x : Int, (∀ rest vs ts, pEv nm (L ++ rest) vs ts = pEv nm rest (x :: vs) ts) ∧
    ∀ d, D ≤ d → ∀ g' m', agF F g m g' m' → ∀ a, nmA g' m' a nm → ∃ z : Int64, (r_E d g' m').1 (some p) (some a) = some z ∧ z.toInt = x ∧ -2147483648 ≤ x ∧ x ≤ 2147483648
def vA (D : Nat) (F : Nat → Prop) (g : zGd) (m : zMm) (p : Nat) (L : aC) : Prop :=
  (F p ∧ ((zK g p).1 = 9 ∨ (zK g p).1 = 10 ∨ (zK g p).1 = 11)) ∧
  ∀ nm : Int → Int, ∃ t : Bool, (∀ rest vs ts, pEv nm (L ++ rest) vs ts = pEv nm rest vs (t :: ts)) ∧
    ∀ d, D ≤ d → ∀ g' m', agF F g m g' m' → ∀ a, nmA g' m' a nm → (r_E d g' m').2 (some p) (some a) = some (if t = true then 1 else 0)
theorem pEv_s (nm : Int → Int) (o v : Int) (L : aC) (vs : List Int) (ts : List Bool) : pEv nm ((o, v) :: L) vs ts = (if o = 0 then pEv nm L (v :: vs) ts
    else if o = 1 then (if 0 ≤ v ∧ v < 7 then pEv nm L (nm v :: vs) ts else none)
    else if o = 3 then (match vs, ts with
      | b :: a :: vs', t :: ts' => pEv nm L ((if t then a else b) :: vs') ts'
      | _, _ => none)
    else if o = 2 ∨ o = 4 ∨ o = 5 then (match vs with
      | a :: vs' => pEv nm L (pOne nm o a :: vs') ts
      | [] => none)
    else if 6 ≤ o ∧ o ≤ 9 then (match vs with
      | b :: a :: vs' => pEv nm L (pTwo o a b :: vs') ts
      | _ => none)
    else if 10 ≤ o ∧ o ≤ 15 then (match vs with
      | b :: a :: vs' => pEv nm L vs' (pAsk o a b :: ts)
      | _ => none)
    else if o = 20 then (match ts with
      | t :: ts' => pEv nm L vs ((!t) :: ts')
      | [] => none)
    else if o = 21 ∨ o = 22 then (match ts with
      | u :: t :: ts' => pEv nm L vs ((if o = 21 then t && u else t || u) :: ts')
      | _ => none)
    else none) := rfl
theorem agF.mono {F F' : Nat → Prop} {g g' : zGd} {m m' : zMm} (h : agF F g m g' m') (k : ∀ q, F' q → F q) : agF F' g m g' m' := ⟨h.1, h.2.1, fun q hq => h.2.2 q (hq.imp (k q) id)⟩
theorem agF.tr {F : Nat → Prop} {g1 g2 g3 : zGd} {m1 m2 m3 : zMm} (h : agF F g1 m1 g2 m2) (k : agF F g2 m2 g3 m3) : agF F g1 m1 g3 m3 := by
  refine ⟨k.1.trans h.1, k.2.1.trans h.2.1, fun q hq => ?_⟩
  have x := h.2.2 q hq
  have y := k.2.2 q (by rw [h.1]; exact hq)
  exact ⟨y.1.trans x.1, y.2.1.trans x.2.1, y.2.2.trans x.2.2⟩
theorem vS.mono {D D' : Nat} {F F' : Nat → Prop} {g g' : zGd} {m m' : zMm} {p : Nat} {L : aC} (h : vS D F g m p L) (hD : D ≤ D') (hF : ∀ q, F q → F' q) (k : agF F g m g' m') : vS D' F' g' m' p L := by
  refine ⟨⟨hF p h.1.1, by rw [(k.2.2 p (Or.inl h.1.1)).1]; exact h.1.2⟩, fun nm => ?_⟩
  obtain ⟨x, h1, h2⟩ := h.2 nm
  exact ⟨x, h1, fun d hd g2 m2 hag a ha => h2 d (by omega) g2 m2 (k.tr (hag.mono hF)) a ha⟩
theorem vA.mono {D D' : Nat} {F F' : Nat → Prop} {g g' : zGd} {m m' : zMm} {p : Nat} {L : aC} (h : vA D F g m p L) (hD : D ≤ D') (hF : ∀ q, F q → F' q) (k : agF F g m g' m') : vA D' F' g' m' p L := by
  refine ⟨⟨hF p h.1.1, by rw [(k.2.2 p (Or.inl h.1.1)).1]; exact h.1.2⟩, fun nm => ?_⟩
  obtain ⟨x, h1, h2⟩ := h.2 nm
  exact ⟨x, h1, fun d hd g2 m2 hag a ha => h2 d (by omega) g2 m2 (k.tr (hag.mono hF)) a ha⟩
theorem i64_i {v : Int32} {x : Int} (h : v.toInt = x) : v.toInt64.toInt = x := by rw [Int32.toInt_toInt64]; exact h
theorem j_add {u v : Int64} {x y : Int} (h : u.toInt = x) (k : v.toInt = y) (h0 : -9223372036854775808 ≤ x + y) (h1 : x + y ≤ 9223372036854775807) : (u + v).toInt = x + y := by
  have e : u + v = Int64.ofInt (x + y) := by rw [Int64.ofInt_add, ← h, ← k, Int64.ofInt_toInt, Int64.ofInt_toInt]
  rw [e]; exact Int64.toInt_ofInt_of_le (by omega) (by omega)
theorem j_sub {u v : Int64} {x y : Int} (h : u.toInt = x) (k : v.toInt = y) (h0 : -9223372036854775808 ≤ x - y) (h1 : x - y ≤ 9223372036854775807) : (u - v).toInt = x - y := by
  have e : u - v = Int64.ofInt (x - y) := by rw [Int64.ofInt_sub, ← h, ← k, Int64.ofInt_toInt, Int64.ofInt_toInt]
  rw [e]; exact Int64.toInt_ofInt_of_le (by omega) (by omega)
theorem j_mul {u v : Int64} {x y : Int} (h : u.toInt = x) (k : v.toInt = y) (h0 : -9223372036854775808 ≤ x * y) (h1 : x * y ≤ 9223372036854775807) : (u * v).toInt = x * y := by
  have e : u * v = Int64.ofInt (x * y) := by rw [Int64.ofInt_mul, ← h, ← k, Int64.ofInt_toInt, Int64.ofInt_toInt]
  rw [e]; exact Int64.toInt_ofInt_of_le (by omega) (by omega)
theorem j_neg {u : Int64} {x : Int} (h : u.toInt = x) (h0 : -9223372036854775808 ≤ -x) (h1 : -x ≤ 9223372036854775807) : (-u).toInt = -x := by
  have e : -u = Int64.ofInt (-x) := by rw [Int64.ofInt_neg, ← h, Int64.ofInt_toInt]
  rw [e]; exact Int64.toInt_ofInt_of_le (by omega) (by omega)
theorem j_lt {u v : Int64} {x y : Int} (h : u.toInt = x) (k : v.toInt = y) : u < v ↔ x < y := by rw [← h, ← k]; exact Int64.lt_iff_toInt_lt
theorem j_le {u v : Int64} {x y : Int} (h : u.toInt = x) (k : v.toInt = y) : u ≤ v ↔ x ≤ y := by rw [← h, ← k]; exact Int64.le_iff_toInt_le
theorem j_eq {u v : Int64} {x y : Int} (h : u.toInt = x) (k : v.toInt = y) : u = v ↔ x = y := by rw [← h, ← k]; exact Int64.toInt_inj.symm
theorem i32_b (v : Int32) : -2147483648 ≤ v.toInt ∧ v.toInt ≤ 2147483647 := by
  have h5 := v.le_toInt
  have h6 := v.toInt_lt
  omega
section
variable {D : Nat} {F : Nat → Prop} {g : zGd} {m : zMm} {p c : Nat} {L : aC}
theorem rE_1 {d k : Nat} {g : zGd} {m : zMm} {p a : Nat} (hk : (zK g p).1 = k) : (r_E (d + 1) g m).1 (some p) (some a) = (if k = 7 then q_X6_of (r_E d g m) g m (some p) (some a) else if k = 8 then q_X7_of (r_E d g m) g m (some p) (some a) else if k = 12 then q_X11_of (r_E d g m) g m (some p) (some a) else if k = 13 then q_X12_of (r_E d g m) g m (some p) (some a) else if k = 14 then q_X13_of (r_E d g m) g m (some p) (some a) else if k = 15 then q_X14_of (r_E d g m) g m (some p) (some a) else if k = 16 then q_X15_of (r_E d g m) g m (some p) (some a) else none) := by
  subst hk; rfl
theorem rE_2 {d k : Nat} {g : zGd} {m : zMm} {p a : Nat} (hk : (zK g p).1 = k) : (r_E (d + 1) g m).2 (some p) (some a) = (if k = 9 then q_X8_is (r_E d g m) g m (some p) (some a) else if k = 10 then q_X9_is (r_E d g m) g m (some p) (some a) else if k = 11 then q_X10_is (r_E d g m) g m (some p) (some a) else none) := by
  subst hk; rfl
theorem rE_k7 {d : Nat} {g : zGd} {m : zMm} {p a : Nat} (hk : (zK g p).1 = 7) : (r_E (d + 1) g m).1 (some p) (some a) = q_X6_of (r_E d g m) g m (some p) (some a) := by
  rw [rE_1 hk, if_pos rfl]
theorem rE_k8 {d : Nat} {g : zGd} {m : zMm} {p a : Nat} (hk : (zK g p).1 = 8) : (r_E (d + 1) g m).1 (some p) (some a) = q_X7_of (r_E d g m) g m (some p) (some a) := by
  rw [rE_1 hk, if_neg (by decide), if_pos rfl]
theorem rE_k12 {d : Nat} {g : zGd} {m : zMm} {p a : Nat} (hk : (zK g p).1 = 12) : (r_E (d + 1) g m).1 (some p) (some a) = q_X11_of (r_E d g m) g m (some p) (some a) := by
  rw [rE_1 hk, if_neg (by decide), if_neg (by decide), if_pos rfl]
theorem rE_k13 {d : Nat} {g : zGd} {m : zMm} {p a : Nat} (hk : (zK g p).1 = 13) : (r_E (d + 1) g m).1 (some p) (some a) = q_X12_of (r_E d g m) g m (some p) (some a) := by
  rw [rE_1 hk, if_neg (by decide), if_neg (by decide), if_neg (by decide), if_pos rfl]
theorem rE_k14 {d : Nat} {g : zGd} {m : zMm} {p a : Nat} (hk : (zK g p).1 = 14) : (r_E (d + 1) g m).1 (some p) (some a) = q_X13_of (r_E d g m) g m (some p) (some a) := by
  rw [rE_1 hk, if_neg (by decide), if_neg (by decide), if_neg (by decide), if_neg (by decide), if_pos rfl]
theorem rE_k15 {d : Nat} {g : zGd} {m : zMm} {p a : Nat} (hk : (zK g p).1 = 15) : (r_E (d + 1) g m).1 (some p) (some a) = q_X14_of (r_E d g m) g m (some p) (some a) := by
  rw [rE_1 hk, if_neg (by decide), if_neg (by decide), if_neg (by decide), if_neg (by decide), if_neg (by decide), if_pos rfl]
theorem rE_k16 {d : Nat} {g : zGd} {m : zMm} {p a : Nat} (hk : (zK g p).1 = 16) : (r_E (d + 1) g m).1 (some p) (some a) = q_X15_of (r_E d g m) g m (some p) (some a) := by
  rw [rE_1 hk, if_neg (by decide), if_neg (by decide), if_neg (by decide), if_neg (by decide), if_neg (by decide), if_neg (by decide), if_pos rfl]
theorem rE_k9 {d : Nat} {g : zGd} {m : zMm} {p a : Nat} (hk : (zK g p).1 = 9) : (r_E (d + 1) g m).2 (some p) (some a) = q_X8_is (r_E d g m) g m (some p) (some a) := by
  rw [rE_2 hk, if_pos rfl]
theorem rE_k10 {d : Nat} {g : zGd} {m : zMm} {p a : Nat} (hk : (zK g p).1 = 10) : (r_E (d + 1) g m).2 (some p) (some a) = q_X9_is (r_E d g m) g m (some p) (some a) := by
  rw [rE_2 hk, if_neg (by decide), if_pos rfl]
theorem rE_k11 {d : Nat} {g : zGd} {m : zMm} {p a : Nat} (hk : (zK g p).1 = 11) : (r_E (d + 1) g m).2 (some p) (some a) = q_X10_is (r_E d g m) g m (some p) (some a) := by
  rw [rE_2 hk, if_neg (by decide), if_neg (by decide), if_pos rfl]
theorem nm_ald {nm : Int → Int} {a : Nat} (h : nmA g m a nm) {i : Int32} {x : Int} (hx : i.toInt = x) (x0 : 0 ≤ x) (x1 : x < 19) : ∃ v, zald 101 g m (some a) i = some v ∧ v.toInt = nm x := by
  refine ⟨_, e_ald h.1 hx x0 (by omega), ?_⟩
  rw [h.2 x.toNat (by omega), Int.toNat_of_nonneg x0]
/-- a number -/
theorem v_num (hF : F p) (hk : (zK g p).1 = 8) {v : Int} (hv : (zI m p 0).toInt = v) : vS 1 F g m p [(0, v)] := by
  refine ⟨⟨hF, by omega⟩, fun nm => ⟨v, fun rest vs ts => rfl, fun d hd g' m' hag a ha => ?_⟩⟩
  obtain ⟨d, rfl⟩ : ∃ d', d = d' + 1 := ⟨d - 1, by omega⟩
  obtain ⟨k1, k2, k3⟩ := hag.2.2 p (Or.inl hF)
  have hb := i32_b (zI m p 0)
  refine ⟨(zI m p 0).toInt64, ?_, i64_i hv, by omega, by omega⟩
  have hk' : (zK g' p).1 = 8 := by rw [k1]; exact hk
  rw [rE_k8 hk']
  unfold q_X7_of
  rw [e_gi (ci := 7) hk', k2]; rfl
/-- a name -/
theorem v_name (hF : F p) (hk : (zK g p).1 = 13) {k : Int} (hv : (zI m p 0).toInt = k) (k0 : 0 ≤ k) (k6 : k < 7) : vS 1 F g m p [(1, k)] := by
  refine ⟨⟨hF, by omega⟩, fun nm => ⟨nm k, fun rest vs ts => ?_, fun d hd g' m' hag a ha => ?_⟩⟩
  · show (if (1 : Int) = 0 then _ else if (1 : Int) = 1 then (if 0 ≤ k ∧ k < 7 then pEv nm rest (nm k :: vs) ts else none) else _) = _
    rw [if_neg (by omega), if_pos rfl, if_pos ⟨k0, k6⟩]
  · obtain ⟨d, rfl⟩ : ∃ d', d = d' + 1 := ⟨d - 1, by omega⟩
    obtain ⟨k1, k2, k3⟩ := hag.2.2 p (Or.inl hF)
    obtain ⟨v, ev, hv2⟩ := nm_ald ha (i := zI m p 0) hv k0 (by omega)
    have hb := i32_b v
    refine ⟨v.toInt64, ?_, i64_i hv2, by omega, by omega⟩
    have hk' : (zK g' p).1 = 13 := by rw [k1]; exact hk
    rw [rE_k13 hk']
    unfold q_X12_of
    rw [e_gi (ci := 12) hk', k2]
    dsimp only [Option.bind_some]
    rw [ev]; rfl
theorem ev_app {nm : Int → Int} {A B rest : aC} {vs : List Int} {ts : List Bool} : pEv nm (A ++ B ++ rest) vs ts = pEv nm (A ++ (B ++ rest)) vs ts := by rw [List.append_assoc]
theorem ev_one {nm : Int → Int} {o x : Int} {rest : aC} {vs : List Int} {ts : List Bool} (ho : o = 2 ∨ o = 4 ∨ o = 5) : pEv nm ([(o, 0)] ++ rest) (x :: vs) ts = pEv nm rest (pOne nm o x :: vs) ts := by
  show pEv nm ((o, 0) :: rest) (x :: vs) ts = _
  rw [pEv_s, if_neg (by omega), if_neg (by omega), if_neg (by omega), if_pos ho]
/-- minus of one, who is across of one, how much one has kept -/
theorem v_one (hc : vS D F g m c L) (hF : F p) {o : Int} (ho : (o = 5 ∧ (zK g p).1 = 16) ∨ (o = 2 ∧ (zK g p).1 = 14) ∨ (o = 4 ∧ (zK g p).1 = 15)) (hr : zR m p 0 = some c) : vS (D + 1) F g m p (L ++ [(o, 0)]) := by
  refine ⟨⟨hF, by omega⟩, fun nm => ?_⟩
  obtain ⟨x, h1, h2⟩ := hc.2 nm
  refine ⟨pOne nm o x, fun rest vs ts => ?_, fun d hd g' m' hag a ha => ?_⟩
  · rw [ev_app, h1, ev_one (by omega)]
  · obtain ⟨d, rfl⟩ : ∃ d', d = d' + 1 := ⟨d - 1, by omega⟩
    obtain ⟨k1, k2, k3⟩ := hag.2.2 p (Or.inl hF)
    obtain ⟨z, z1, z2, z3, z4⟩ := h2 d (by omega) g' m' hag a ha
    have zero : (0 : Int64).toInt = 0 := by decide
    have six : (6 : Int64).toInt = 6 := by decide
    have hl0 := j_lt z2 zero
    have hl6 := j_lt z2 six
    have h32 : ∀ w : Int32, (∃ v, zald 101 g' m' (some a) (w + z.toInt32) = some v ∧ v.toInt = nm (w.toInt + x)) → True := fun _ _ => trivial
    have hz32 : 0 ≤ x → x < 6 → z.toInt32.toInt = x := fun a b => by
      have e : z = Int64.ofInt x := by rw [← z2, Int64.ofInt_toInt]
      rw [e, Int64.toInt32_ofInt]; exact Int32.toInt_ofInt_of_le (by omega) (by omega)
    rcases ho with ⟨ho, hk⟩ | ⟨ho, hk⟩ | ⟨ho, hk⟩
    · have hk' : (zK g' p).1 = 16 := by rw [k1]; exact hk
      refine ⟨-z, ?_, ?_, ?_, ?_⟩
      · rw [rE_k16 hk']
        unfold q_X15_of
        rw [e_gr (ci := 15) hk', k3, hr]
        dsimp only [Option.bind_some]
        rw [z1]; rfl
      · rw [j_neg z2 (by omega) (by omega), ho]; rfl
      · rw [ho]; show -2147483648 ≤ -x; omega
      · rw [ho]; show -x ≤ 2147483648; omega
    · have hk' : (zK g' p).1 = 14 := by rw [k1]; exact hk
      have pre : (r_E (d + 1) g' m').1 (some p) (some a) = if z < 0 then some 0 else if z < 6 then ((zald 101 g' m' (some a) (7 + z.toInt32)).bind fun v3 => some v3.toInt64) else some 0 := by
        rw [rE_k14 hk']
        unfold q_X13_of
        rw [e_gr (ci := 13) hk', k3, hr]
        dsimp only [Option.bind_some]
        rw [z1]; rfl
      rw [pre]
      have hpo : pOne nm o x = if x < 0 ∨ 6 ≤ x then 0 else nm (7 + x) := by
        unfold pOne
        rw [if_neg (by omega), if_pos ho]
      rw [hpo]
      by_cases q : x < 0 ∨ 6 ≤ x
      · rw [if_pos q]
        refine ⟨0, ?_, zero, by omega, by omega⟩
        by_cases q1 : z < 0
        · rw [if_pos q1]
        · rw [if_neg q1, if_neg (fun y => by have := hl6.mp y; have d : ¬ x < 0 := fun z => q1 (hl0.mpr z); omega)]
      · rw [if_neg q, if_neg (fun y => by have := hl0.mp y; omega), if_pos (hl6.mpr (by omega))]
        obtain ⟨v, ev, hv⟩ := nm_ald ha (i_add (show (7 : Int32).toInt = 7 by decide) (hz32 (by omega) (by omega)) (by omega) (by omega)) (by omega) (by omega)
        rw [ev]
        have hb := i32_b v
        exact ⟨v.toInt64, rfl, i64_i hv, by omega, by omega⟩
    · have hk' : (zK g' p).1 = 15 := by rw [k1]; exact hk
      have pre : (r_E (d + 1) g' m').1 (some p) (some a) = if z < 0 then some 0 else if z < 6 then ((zald 101 g' m' (some a) (13 + z.toInt32)).bind fun v3 => some v3.toInt64) else some 0 := by
        rw [rE_k15 hk']
        unfold q_X14_of
        rw [e_gr (ci := 14) hk', k3, hr]
        dsimp only [Option.bind_some]
        rw [z1]; rfl
      rw [pre]
      have hpo : pOne nm o x = if x < 0 ∨ 6 ≤ x then 0 else nm (13 + x) := by
        unfold pOne
        rw [if_neg (by omega), if_neg (show ¬ o = 2 by omega)]
      rw [hpo]
      by_cases q : x < 0 ∨ 6 ≤ x
      · rw [if_pos q]
        refine ⟨0, ?_, zero, by omega, by omega⟩
        by_cases q1 : z < 0
        · rw [if_pos q1]
        · rw [if_neg q1, if_neg (fun y => by have := hl6.mp y; have d : ¬ x < 0 := fun z => q1 (hl0.mpr z); omega)]
      · rw [if_neg q, if_neg (fun y => by have := hl0.mp y; omega), if_pos (hl6.mpr (by omega))]
        obtain ⟨v, ev, hv⟩ := nm_ald ha (i_add (show (13 : Int32).toInt = 13 by decide) (hz32 (by omega) (by omega)) (by omega) (by omega)) (by omega) (by omega)
        rw [ev]
        have hb := i32_b v
        exact ⟨v.toInt64, rfl, i64_i hv, by omega, by omega⟩
/-- chosen by an asking -/
theorem v_if {ca cy cn : Nat} {La Ly Ln : aC} (ha : vA D F g m ca La) (hy : vS D F g m cy Ly) (hn : vS D F g m cn Ln) (hF : F p) (hk : (zK g p).1 = 12) (h0 : zR m p 0 = some ca) (h1 : zR m p 1 = some cy) (h2 : zR m p 2 = some cn) : vS (D + 1) F g m p (La ++ Ly ++ Ln ++ [(3, 0)]) := by
  refine ⟨⟨hF, by omega⟩, fun nm => ?_⟩
  obtain ⟨t, a1, a2⟩ := ha.2 nm
  obtain ⟨x, y1, y2⟩ := hy.2 nm
  obtain ⟨u, n1, n2⟩ := hn.2 nm
  refine ⟨if t = true then x else u, fun rest vs ts => ?_, fun d hd g' m' hag a hnm => ?_⟩
  · rw [List.append_assoc, List.append_assoc, List.append_assoc, a1, y1, n1]
    show pEv nm ((3, 0) :: rest) (u :: x :: vs) (t :: ts) = _
    rw [pEv_s, if_neg (by omega), if_neg (by omega), if_pos rfl]
  · obtain ⟨d, rfl⟩ : ∃ d', d = d' + 1 := ⟨d - 1, by omega⟩
    obtain ⟨k1, k2, k3⟩ := hag.2.2 p (Or.inl hF)
    have hk' : (zK g' p).1 = 12 := by rw [k1]; exact hk
    have b := a2 d (by omega) g' m' hag a hnm
    obtain ⟨z, z1, z2, z3, z4⟩ := y2 d (by omega) g' m' hag a hnm
    obtain ⟨w, w1, w2, w3, w4⟩ := n2 d (by omega) g' m' hag a hnm
    rw [rE_k12 hk']
    unfold q_X11_of
    rw [e_gr (ci := 11) hk', k3, h0]
    dsimp only [Option.bind_some]
    rw [b]
    dsimp only [Option.bind_some]
    cases t with
    | true =>
      rw [if_pos rfl, if_pos rfl, if_neg (by decide), e_gr (ci := 11) hk', k3, h1]
      dsimp only [Option.bind_some]
      rw [z1]
      exact ⟨z, rfl, z2, z3, z4⟩
    | false =>
      show ∃ z, ((zgr g' m' 11 2 (some p)).bind fun r3 => ((r_E d g' m').1 r3 (some a)).bind fun w4 => some w4) = some z ∧ z.toInt = u ∧ -2147483648 ≤ u ∧ u ≤ 2147483648
      rw [e_gr (ci := 11) hk', k3, h2]
      dsimp only [Option.bind_some]
      rw [w1]
      exact ⟨w, rfl, w2, w3, w4⟩
/-- not -/
theorem v_not (ha : vA D F g m c L) (hF : F p) (hk : (zK g p).1 = 9) (h0 : zR m p 0 = some c) : vA (D + 1) F g m p (L ++ [(20, 0)]) := by
  refine ⟨⟨hF, by omega⟩, fun nm => ?_⟩
  obtain ⟨t, a1, a2⟩ := ha.2 nm
  refine ⟨!t, fun rest vs ts => ?_, fun d hd g' m' hag a hnm => ?_⟩
  · rw [List.append_assoc, a1]
    show pEv nm ((20, 0) :: rest) vs (t :: ts) = _
    rw [pEv_s, if_neg (by omega), if_neg (by omega), if_neg (by omega), if_neg (by omega), if_neg (by omega), if_neg (by omega), if_pos rfl]
  · obtain ⟨d, rfl⟩ : ∃ d', d = d' + 1 := ⟨d - 1, by omega⟩
    obtain ⟨k1, k2, k3⟩ := hag.2.2 p (Or.inl hF)
    have hk' : (zK g' p).1 = 9 := by rw [k1]; exact hk
    have b := a2 d (by omega) g' m' hag a hnm
    rw [rE_k9 hk']
    unfold q_X8_is
    rw [e_gr (ci := 8) hk', k3, h0]
    dsimp only [Option.bind_some]
    rw [b]
    dsimp only [Option.bind_some]
    cases t <;> rfl
/-- two sums compared -/
theorem v_cmp {c1 c2 : Nat} {L1 L2 : aC} (h1 : vS D F g m c1 L1) (h2 : vS D F g m c2 L2) (hF : F p) (hk : (zK g p).1 = 10) {s : Int} (hs : (zI m p 0).toInt = s) (hcm : aCm s ≠ -1) (r1 : zR m p 1 = some c1) (r2 : zR m p 2 = some c2) : vA (D + 1) F g m p (L1 ++ L2 ++ [(aCm s, 0)]) := by
  refine ⟨⟨hF, by omega⟩, fun nm => ?_⟩
  obtain ⟨x, x1, x2⟩ := h1.2 nm
  obtain ⟨y, y1, y2⟩ := h2.2 nm
  have hr := aCm_r (s := s) rfl hcm
  refine ⟨pAsk (aCm s) x y, fun rest vs ts => ?_, fun d hd g' m' hag a hnm => ?_⟩
  · rw [List.append_assoc, List.append_assoc, x1, y1]
    show pEv nm ((aCm s, 0) :: rest) (y :: x :: vs) ts = _
    rw [pEv_s, if_neg (by omega), if_neg (by omega), if_neg (by omega), if_neg (by omega), if_neg (by omega), if_pos (by omega)]
  · obtain ⟨d, rfl⟩ : ∃ d', d = d' + 1 := ⟨d - 1, by omega⟩
    obtain ⟨k1, k2, k3⟩ := hag.2.2 p (Or.inl hF)
    have hk' : (zK g' p).1 = 10 := by rw [k1]; exact hk
    obtain ⟨z, z1, z2, z3, z4⟩ := x2 d (by omega) g' m' hag a hnm
    obtain ⟨w, w1, w2, w3, w4⟩ := y2 d (by omega) g' m' hag a hnm
    have hd := j_sub z2 w2 (by omega) (by omega)
    have zero : (0 : Int64).toInt = 0 := by decide
    rw [rE_k10 hk']
    unfold q_X9_is
    rw [e_gr (ci := 9) hk', e_gr (ci := 9) hk', k3, r1, r2]
    dsimp only [Option.bind_some]
    rw [z1]
    dsimp only [Option.bind_some]
    rw [w1]
    dsimp only [Option.bind_some, zlt]
    rw [e_gi (ci := 9) hk', k2]
    dsimp only [Option.bind_some]
    have q35 := i_eq hs (show (35 : Int32).toInt = 35 by decide)
    have q60 := i_eq hs (show (60 : Int32).toInt = 60 by decide)
    have q61 := i_eq hs (show (61 : Int32).toInt = 61 by decide)
    have q62 := i_eq hs (show (62 : Int32).toInt = 62 by decide)
    have q303 := i_eq hs (show (303 : Int32).toInt = 303 by decide)
    have e0 := j_eq hd zero
    have le0 := j_le zero hd
    have le1 := j_le hd zero
    have lt0 := j_lt zero hd
    have lt1 := j_lt hd zero
    simp only [q35, q60, q61, q62, q303, e0, le0, le1, lt0, lt1]
    have hcases : s = 60 ∨ s = 303 ∨ s = 62 ∨ s = 304 ∨ s = 61 ∨ s = 35 := by
      unfold aCm at hcm
      repeat' split at hcm
      all_goals first | omega | (exfalso; exact hcm rfl)
    unfold pAsk
    rcases hcases with e | e | e | e | e | e <;> subst e <;> (simp only [aCm]; simp; split <;> split <;> first | rfl | (exfalso; omega))
end
