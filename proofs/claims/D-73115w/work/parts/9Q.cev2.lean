/-! COMPONENT READING: what lists mean -/
set_option maxRecDepth 100000
/-- a list and what is in it -/
def lsR (F : Nat → Prop) (g : zGd) (m : zMm) (l : Nat) (xs : List Nat) : Prop := F l ∧ (zK g l).1 = 18 ∧ (zI m l 2).toInt = (xs.length : Int) ∧ xs.length ≤ 1000 ∧ ∃ d cap, zR m l 1 = some d ∧ (F d ∨ d < zB g) ∧ zK g d = (105, cap) ∧ xs.length ≤ cap ∧ ∀ (i : Nat) x, xs[i]? = some x → zR m d i = some x
theorem lsR_c {F : Nat → Prop} {g g' : zGd} {m m' : zMm} {l : Nat} {xs : List Nat} (h : lsR F g m l xs) (k : agF F g m g' m') : lsR F g' m' l xs := by
  obtain ⟨h1, h2, h3, h4, d, cap, h5, h6, h7, h8, h9⟩ := h
  have kl := k.2.2 l (Or.inl h1)
  have kd := k.2.2 d h6
  exact ⟨h1, by rw [kl.1]; exact h2, by rw [kl.2.1]; exact h3, h4, d, cap, by rw [kl.2.2]; exact h5, by rw [k.1]; exact h6, by rw [kd.1]; exact h7, h8, fun i x hx => by rw [kd.2.2]; exact h9 i x hx⟩
section
variable {F : Nat → Prop} {g : zGd} {m : zMm} {l : Nat} {xs : List Nat}
theorem ls_size (h : lsR F g m l xs) : zrc g 17 (some l) (f_J2_size g m (some l)) = some (zI m l 2) := by
  rw [e_rc (ci := 17) h.2.1]
  unfold f_J2_size
  rw [e_gi (ci := 17) h.2.1]; rfl
theorem ls_get (h : lsR F g m l xs) {i : Int32} {k : Nat} (hi : i.toInt = (k : Int)) {x : Nat} (hx : xs[k]? = some x) : zrc g 17 (some l) (f_J2_get g m (some l) i) = some (some x) := by
  obtain ⟨h1, h2, h3, h4, d, cap, h5, h6, h7, h8, h9⟩ := h
  have hk : k < xs.length := by
    rcases Nat.lt_or_ge k xs.length with y | y
    · exact y
    · rw [List.getElem?_eq_none y] at hx; cases hx
  have n0 : (0 : Int32).toInt = 0 := by decide
  have e1 : f_J13_checkIndex i (zI m l 2) = some i := by
    unfold f_J13_checkIndex f_J5_checkIndex zEx
    rw [if_neg (fun y => by have := (i_lt hi n0).mp y; omega), if_pos ((i_lt hi h3).mpr (by omega))]
    rfl
  have e2 : f_J2_elementData g m (some l) i = some (some x) := by
    unfold f_J2_elementData
    rw [e_gr (ci := 17) h2, h5]
    dsimp only [Option.bind_some]
    rw [e_aldr h7 hi (by omega) (by omega), Int.toNat_natCast, h9 k x hx]
    rfl
  rw [e_rc (ci := 17) h2]
  unfold f_J2_get
  rw [e_gi (ci := 17) h2]
  dsimp only [Option.bind_some]
  rw [e1]
  dsimp only [Option.bind_some]
  rw [e_rc (ci := 17) h2, e2]
  rfl
end
/-- a sign's step -/
def sgO (s : Int) : Int := if s = 43 then 6 else if s = 45 then 7 else if s = 42 then 8 else 9
/-- an item: its reference, its sign's, its sign, its steps -/
abbrev cIt : Type := Nat × Nat × Int × aC
def chC (C : aC) (it : List cIt) : aC := it.foldl (fun C e => C ++ e.2.2.2 ++ [(sgO e.2.2.1, 0)]) C
theorem chC_a (A C : aC) : ∀ it : List cIt, chC (A ++ C) it = A ++ chC C it
  | [] => rfl
  | e :: it => by
    show chC (A ++ C ++ e.2.2.2 ++ [(sgO e.2.2.1, 0)]) it = A ++ chC (C ++ e.2.2.2 ++ [(sgO e.2.2.1, 0)]) it
    rw [← chC_a A _ it]
    simp [List.append_assoc]
theorem chC_s (C : aC) (it : List cIt) (e : cIt) : chC C (it ++ [e]) = chC C it ++ e.2.2.2 ++ [(sgO e.2.2.1, 0)] := by
  unfold chC
  rw [List.foldl_append]; rfl
theorem sgO_b (s : Int) : 6 ≤ sgO s ∧ sgO s ≤ 9 := by
  unfold sgO
  repeat' split
  all_goals omega
theorem pTwo_b (o x y : Int) : -1000000 ≤ pTwo o x y ∧ pTwo o x y ≤ 1000000 := by
  unfold pTwo
  dsimp only
  generalize (if o = 6 then x + y else if o = 7 then x - y else if o = 8 then x * y else if y = 0 then 0 else Int.tdiv x y) = z
  by_cases h1 : z > 1000000
  · rw [if_pos h1]; omega
  · rw [if_neg h1]
    by_cases h2 : z < -1000000
    · rw [if_pos h2]; omega
    · rw [if_neg h2]; omega
/-- one sign worked out -/
theorem c_two {w b : Int64} {x y : Int} (hw : w.toInt = x) (hb : b.toInt = y) (x0 : -2147483648 ≤ x ∧ x ≤ 2147483648) (y0 : -2147483648 ≤ y ∧ y ≤ 2147483648) {v : Int32} {s : Int} (hv : v.toInt = s) : ∃ z : Int64, (((if v = (43 : Int32) then (some ((w + b))) else (if v = (45 : Int32) then (some ((w - b))) else (if v = (42 : Int32) then (some ((w * b))) else (if b = (0 : Int64) then (some ((0 : Int64))) else ((zldiv w b).bind fun w18 => some (w18))))) : Option (Int64))).bind fun w17 => (f_J7_min_2 (1000000 : Int64) w17).bind fun w19 => f_J7_max_2 (-1000000 : Int64) w19) = some z ∧ z.toInt = pTwo (sgO s) x y := by
  have q43 := i_eq hv (show (43 : Int32).toInt = 43 by decide)
  have q45 := i_eq hv (show (45 : Int32).toInt = 45 by decide)
  have q42 := i_eq hv (show (42 : Int32).toInt = 42 by decide)
  have zero : (0 : Int64).toInt = 0 := by decide
  have q0 := j_eq hb zero
  have mil : (1000000 : Int64).toInt = 1000000 := by decide
  have nmil : (-1000000 : Int64).toInt = -1000000 := by decide
  have clip : ∀ (u : Int64) (t : Int), u.toInt = t → ∃ z : Int64, ((f_J7_min_2 (1000000 : Int64) u).bind fun w19 => f_J7_max_2 (-1000000 : Int64) w19) = some z ∧ z.toInt = if t > 1000000 then 1000000 else if t < -1000000 then -1000000 else t := fun u t hu => by
    have c1 := j_lt hu mil
    unfold f_J7_min_2 f_J7_max_2
    by_cases a : u < 1000000
    · have a' := c1.mp a
      rw [if_pos a]
      dsimp only [Option.bind_some]
      have c2 := j_lt nmil hu
      by_cases b : (-1000000 : Int64) < u
      · have b' := c2.mp b
        exact ⟨u, by rw [if_pos b], by rw [hu, if_neg (by omega), if_neg (by omega)]⟩
      · have b' : ¬ -1000000 < t := fun y => b (c2.mpr y)
        refine ⟨-1000000, by rw [if_neg b], ?_⟩
        rw [nmil, if_neg (by omega)]
        split <;> omega
    · have a' : ¬ t < 1000000 := fun y => a (c1.mpr y)
      rw [if_neg a]
      dsimp only [Option.bind_some]
      rw [if_pos (by decide)]
      refine ⟨1000000, rfl, ?_⟩
      rw [mil]
      by_cases q : t > 1000000
      · rw [if_pos q]
      · rw [if_neg q, if_neg (by omega)]; omega
  have core : ∃ (u : Int64) (t : Int), ((if v = (43 : Int32) then (some ((w + b))) else (if v = (45 : Int32) then (some ((w - b))) else (if v = (42 : Int32) then (some ((w * b))) else (if b = (0 : Int64) then (some ((0 : Int64))) else ((zldiv w b).bind fun w18 => some (w18))))) : Option (Int64))) = some u ∧ u.toInt = t ∧ t = (if sgO s = 6 then x + y else if sgO s = 7 then x - y else if sgO s = 8 then x * y else if y = 0 then 0 else Int.tdiv x y) := by
    unfold sgO
    by_cases c1 : v = 43
    · have e := q43.mp c1
      exact ⟨w + b, x + y, by rw [if_pos c1], j_add hw hb (by omega) (by omega), by rw [if_pos e, if_pos rfl]⟩
    rw [if_neg c1]
    have d1 : ¬ s = 43 := fun y => c1 (q43.mpr y)
    rw [if_neg d1]
    by_cases c2 : v = 45
    · have e := q45.mp c2
      exact ⟨w - b, x - y, by rw [if_pos c2], j_sub hw hb (by omega) (by omega), by rw [if_pos e, if_neg (by omega), if_pos rfl]⟩
    rw [if_neg c2]
    have d2 : ¬ s = 45 := fun y => c2 (q45.mpr y)
    rw [if_neg d2]
    by_cases c3 : v = 42
    · have e := q42.mp c3
      have hxy : -4611686018427387904 ≤ x * y ∧ x * y ≤ 4611686018427387904 := by
        have h1 : (x * y).natAbs ≤ 2147483648 * 2147483648 := by
          rw [Int.natAbs_mul]
          exact Nat.mul_le_mul (by omega) (by omega)
        omega
      exact ⟨w * b, x * y, by rw [if_pos c3], j_mul hw hb (by omega) (by omega), by rw [if_pos e, if_neg (by omega), if_neg (by omega), if_pos rfl]⟩
    rw [if_neg c3]
    have d3 : ¬ s = 42 := fun y => c3 (q42.mpr y)
    rw [if_neg d3]
    by_cases c4 : b = 0
    · have e := q0.mp c4
      exact ⟨0, 0, by rw [if_pos c4], zero, by rw [if_neg (by omega), if_neg (by omega), if_neg (by omega), if_pos e]⟩
    have d4 : ¬ y = 0 := fun z => c4 (q0.mpr z)
    have hz : zldiv w b = some (w / b) := if_neg c4
    refine ⟨w / b, Int.tdiv x y, by rw [if_neg c4, hz]; rfl, ?_, by rw [if_neg (by omega), if_neg (by omega), if_neg (by omega), if_neg d4]⟩
    rw [ptj_div (Or.inl (by omega)), hw, hb]
  obtain ⟨u, t, e1, e2, e3⟩ := core
  rw [e1]
  obtain ⟨z, z1, z2⟩ := clip u t e2
  refine ⟨z, z1, ?_⟩
  rw [z2, e3]
  rfl
section
variable {D : Nat} {F : Nat → Prop} {g : zGd} {m : zMm} {p c l s : Nat} {L : aC}
/-- what an item is -/
def itR (D : Nat) (F : Nat → Prop) (g : zGd) (m : zMm) (e : cIt) : Prop := vS D F g m e.1 e.2.2.2 ∧ (F e.2.1 ∨ e.2.1 < zB g) ∧ (zK g e.2.1).1 = 20 ∧ (zI m e.2.1 0).toInt = e.2.2.1
theorem v_chain (h0 : vS D F g m c L) (hF : F p) (hk : (zK g p).1 = 7) (r0 : zR m p 0 = some c) (r1 : zR m p 1 = some l) (r2 : zR m p 2 = some s) {it : List cIt} (hl : lsR F g m l (it.map fun e => e.1)) (hs : lsR F g m s (it.map fun e => e.2.1)) (hit : ∀ e ∈ it, itR D F g m e) : vS (D + 1) F g m p (chC L it) := by
  refine ⟨⟨hF, by omega⟩, fun nm => ?_⟩
  obtain ⟨x0, a1, a2⟩ := h0.2 nm
  -- what the steps give
  have ex : ∀ (it : List cIt) (C : aC) (x : Int), (∀ e ∈ it, itR D F g m e) → (∀ rest vs ts, pEv nm (C ++ rest) vs ts = pEv nm rest (x :: vs) ts) → ∃ x', (∀ rest vs ts, pEv nm (chC C it ++ rest) vs ts = pEv nm rest (x' :: vs) ts) ∧ ∀ (d : Nat), D ≤ d → ∀ g' m', agF F g m g' m' → ∀ a, nmA g' m' a nm → ∀ (k : Nat) (it0 : List cIt) (w : Int64) (v : Int32) (Fu : Nat), (∀ e ∈ it0, itR D F g m e) → lsR F g' m' l ((it0 ++ it).map fun e => e.1) → lsR F g' m' s ((it0 ++ it).map fun e => e.2.1) → (zK g' p).1 = 7 → zR m' p 1 = some l → zR m' p 2 = some s → v.toInt = (it0.length : Int) → it.length < Fu → w.toInt = x → -2147483648 ≤ x ∧ x ≤ 2147483648 → ∃ z, zLoop (b_X6_of_14 g' m' (r_E d g' m') (some p) (some a)) Fu (w, v) = some z ∧ z.toInt = x' ∧ -2147483648 ≤ x' ∧ x' ≤ 2147483648 := by
    intro it
    induction it with
    | nil =>
      intro C x _ hC
      refine ⟨x, hC, fun d hd g' m' hag a ha k it0 w v Fu hi0 h1 h2 h3 h4 h5 hv hFu hw hx => ?_⟩
      obtain ⟨Fu, rfl⟩ : ∃ F', Fu = F' + 1 := ⟨Fu - 1, by omega⟩
      refine ⟨w, zLoop_l ?_, hw, hx.1, hx.2⟩
      unfold b_X6_of_14
      dsimp only
      rw [e_gr (ci := 6) h3, h4]
      dsimp only [Option.bind_some]
      rw [ls_size h1]
      dsimp only [Option.bind_some]
      rw [if_pos ((i_le h1.2.2.1 hv).mpr (by rw [List.length_map, List.append_nil]; omega))]
    | cons e it ih =>
      intro C x hit hC
      obtain ⟨e1, e2, e3, e4⟩ := hit e List.mem_cons_self
      obtain ⟨y, y1, y2⟩ := e1.2 nm
      have hb := sgO_b e.2.2.1
      have hnew : ∀ rest vs ts, pEv nm (C ++ e.2.2.2 ++ [(sgO e.2.2.1, 0)] ++ rest) vs ts = pEv nm rest (pTwo (sgO e.2.2.1) x y :: vs) ts := fun rest vs ts => by
        rw [List.append_assoc, List.append_assoc, hC, y1]
        show pEv nm ((sgO e.2.2.1, 0) :: rest) (y :: x :: vs) ts = _
        rw [pEv_s, if_neg (by omega), if_neg (by omega), if_neg (by omega), if_neg (by omega), if_pos (by omega)]
      obtain ⟨x', q1, q2⟩ := ih (C ++ e.2.2.2 ++ [(sgO e.2.2.1, 0)]) (pTwo (sgO e.2.2.1) x y) (fun e' he => hit e' (List.mem_cons_of_mem _ he)) hnew
      refine ⟨x', q1, fun d hd g' m' hag a ha k it0 w v Fu hi0 h1 h2 h3 h4 h5 hv hFu hw hx => ?_⟩
      obtain ⟨Fu, rfl⟩ : ∃ F', Fu = F' + 1 := ⟨Fu - 1, by omega⟩
      rw [List.length_cons] at hFu
      obtain ⟨b, b1, b2, b3, b4⟩ := y2 d hd g' m' hag a ha
      have hsg := hag.2.2 e.2.1 e2
      have hk20 : (zK g' e.2.1).1 = 19 + 1 := by rw [hsg.1]; exact e3
      have hsv : (zI m' e.2.1 0).toInt = e.2.2.1 := by rw [hsg.2.1]; exact e4
      obtain ⟨z, z1, z2⟩ := c_two hw b2 hx ⟨b3, b4⟩ hsv
      have hb2 := pTwo_b (sgO e.2.2.1) x y
      have hlen : (it0 ++ e :: it).length = it0.length + it.length + 1 := by rw [List.length_append, List.length_cons]; omega
      have h1l := h1.2.2.2.1
      rw [List.length_map, hlen] at h1l
      have hget : ∀ f : cIt → Nat, ((it0 ++ e :: it).map f)[it0.length]? = some (f e) := fun f => by
        rw [List.getElem?_map, List.getElem?_append_right (Nat.le_refl _), Nat.sub_self]; rfl
      have pre : b_X6_of_14 g' m' (r_E d g' m') (some p) (some a) (w, v) = some (.inr (z, v + 1)) := by
        refine pw_to ?_
        unfold b_X6_of_14
        refine pw_beq (e_gr (ci := 6) h3) ?_
        rw [h4]
        refine pw_beq (ls_size h1) (pw_ite (fun q => ?_) (fun _ => ?_))
        · have := (i_le h1.2.2.1 hv).mp q
          rw [List.length_map, hlen] at this
          exfalso; omega
        refine pw_beq (e_gr (ci := 6) h3) ?_
        rw [h4]
        refine pw_beq (ls_get h1 hv (hget _)) ?_
        have hcst : zcst [6, 7, 11, 12, 13, 14, 15] g' (some e.1) = some () := by
          have hk1 := e1.1.2
          rw [← (hag.2.2 e.1 (Or.inl e1.1.1)).1] at hk1
          refine if_pos ?_
          rcases hk1 with q | q | q | q | q | q | q <;> rw [q] <;> decide
        refine pw_beq hcst (pw_beq b1 (pw_beq (e_gr (ci := 6) h3) ?_))
        rw [h5]
        refine pw_beq (ls_get h2 hv (hget _)) ?_
        have hcst2 : zcst [19] g' (some e.2.1) = some () := by
          refine if_pos ?_
          rw [hk20]; decide
        have hint : zrc g' 19 (some e.2.1) (f_J15_intValue g' m' (some e.2.1)) = some (zI m' e.2.1 0) := by
          rw [e_rc (ci := 19) hk20]
          unfold f_J15_intValue
          rw [e_gi (ci := 19) hk20]; rfl
        refine pw_beq hcst2 (pw_beq hint ?_)
        obtain ⟨u1, hu1, hu2⟩ := bind_z z1
        obtain ⟨u2, hu3, hu4⟩ := bind_z hu2
        refine pw_beq hu1 (pw_beq hu3 (pw_beq hu4 (pw_zlt (pw_some rfl))))
      have hsz : (it0 ++ [e]) ++ it = it0 ++ e :: it := by rw [List.append_assoc]; rfl
      obtain ⟨z', t1, t2⟩ := q2 d hd g' m' hag a ha k (it0 ++ [e]) z (v + 1) Fu (fun e' he => by
        rcases List.mem_append.mp he with q | q
        · exact hi0 e' q
        · rw [List.mem_singleton.mp q]; exact ⟨e1, e2, e3, e4⟩) (by rw [hsz]; exact h1) (by rw [hsz]; exact h2) h3 h4 h5 (by rw [i_add hv (show (1 : Int32).toInt = 1 by decide) (by omega) (by omega), List.length_append, List.length_singleton]; omega) (by omega) z2 (by omega)
      exact ⟨z', (zLoop_r pre).trans t1, t2⟩
  obtain ⟨x', q1, q2⟩ := ex it L x0 hit a1
  refine ⟨x', q1, fun d hd g' m' hag a ha => ?_⟩
  obtain ⟨d, rfl⟩ : ∃ d', d = d' + 1 := ⟨d - 1, by omega⟩
  obtain ⟨k1, k2, k3⟩ := hag.2.2 p (Or.inl hF)
  have hk' : (zK g' p).1 = 7 := by rw [k1]; exact hk
  obtain ⟨z, z1, z2, z3, z4⟩ := a2 d (by omega) g' m' hag a ha
  obtain ⟨w, w1, w2, w3, w4⟩ := q2 d (by omega) g' m' hag a ha 0 [] z 0 zFuel (fun e he => absurd he List.not_mem_nil) (lsR_c hl hag) (lsR_c hs hag) hk' (by rw [k3]; exact r1) (by rw [k3]; exact r2) (by decide) (by have := hl.2.2.2.1; rw [List.length_map] at this; unfold zFuel; omega) z2 ⟨z3, z4⟩
  refine ⟨w, ?_, w2, w3, w4⟩
  rw [rE_k7 hk']
  unfold q_X6_of
  rw [e_gr (ci := 6) hk', k3, r0]
  dsimp only [Option.bind_some]
  rw [z1]
  refine pw_to (pw_bsome (pw_beq w1 (pw_some rfl)))
end
