/-! COMPONENT READING: all, either -/
set_option maxRecDepth 100000
abbrev cAt : Type := Nat × aC
def allC (o : Int) (C : aC) (it : List cAt) : aC := it.foldl (fun C e => C ++ e.2 ++ [(o, 0)]) C
theorem allC_s (o : Int) (C : aC) (it : List cAt) (e : cAt) : allC o C (it ++ [e]) = allC o C it ++ e.2 ++ [(o, 0)] := by
  unfold allC
  rw [List.foldl_append]; rfl
def foB (o : Int) (f : Nat → Bool) : Bool → Nat → Nat → Bool
  | t, _, 0 => t
  | t, j, n + 1 => foB o f (if o = 21 then t && f j else t || f j) (j + 1) n
def ctB (f : Nat → Bool) : Nat → Nat → Nat
  | _, 0 => 0
  | j, n + 1 => (if f j = true then 1 else 0) + ctB f (j + 1) n
theorem ctB_le (f : Nat → Bool) : ∀ n j, ctB f j n ≤ n
  | 0, _ => Nat.le_refl _
  | n + 1, j => by
    have := ctB_le f n (j + 1)
    unfold ctB
    split <;> omega
theorem ctB_s (f : Nat → Bool) : ∀ n j, ctB f j (n + 1) = ctB f j n + if f (j + n) = true then 1 else 0
  | 0, j => by
    show (if f j = true then 1 else 0) + 0 = 0 + if f (j + 0) = true then 1 else 0
    rw [Nat.add_zero, Nat.zero_add, Nat.add_zero]
  | n + 1, j => by
    have := ctB_s f n (j + 1)
    show (if f j = true then 1 else 0) + ctB f (j + 1) (n + 1) = (if f j = true then 1 else 0) + ctB f (j + 1) n + _
    rw [this, show j + 1 + n = j + (n + 1) by omega]
    omega
theorem foB_and (f : Nat → Bool) : ∀ n t j, foB 21 f t j n = (t && decide (ctB f j n = n))
  | 0, t, j => by
    show t = (t && decide ((0 : Nat) = 0))
    cases t <;> rfl
  | n + 1, t, j => by
    have h := foB_and f n (t && f j) (j + 1)
    have hle := ctB_le f n (j + 1)
    show foB 21 f (if (21 : Int) = 21 then t && f j else t || f j) (j + 1) n = (t && decide ((if f j = true then 1 else 0) + ctB f (j + 1) n = n + 1))
    rw [if_pos rfl, h]
    cases t with
    | false => rfl
    | true =>
      cases hf : f j with
      | false =>
        rw [Bool.eq_iff_iff]
        simp
        omega
      | true =>
        rw [Bool.eq_iff_iff]
        simp
        omega
theorem foB_or (f : Nat → Bool) : ∀ n t j, foB 22 f t j n = (t || decide (0 < ctB f j n))
  | 0, t, j => by
    show t = (t || decide (0 < 0))
    cases t <;> rfl
  | n + 1, t, j => by
    have h := foB_or f n (t || f j) (j + 1)
    show foB 22 f (if (22 : Int) = 21 then t && f j else t || f j) (j + 1) n = (t || decide (0 < (if f j = true then 1 else 0) + ctB f (j + 1) n))
    rw [if_neg (by omega), h]
    cases t with
    | true => rfl
    | false =>
      cases hf : f j with
      | false =>
        rw [Bool.eq_iff_iff]
        simp
      | true =>
        rw [Bool.eq_iff_iff]
        simp
        omega
section
variable {D : Nat} {F : Nat → Prop} {g : zGd} {m : zMm} {p l : Nat}
theorem v_all (hF : F p) (hk : (zK g p).1 = 11) {an o : Int} (han : (zI m p 0).toInt = an) (ho : (o = 21 ∧ an = 1) ∨ (o = 22 ∧ an = 0)) (r1 : zR m p 1 = some l) {e0 : cAt} {it : List cAt} (hl : lsR F g m l ((e0 :: it).map fun e => e.1)) (hit : ∀ e ∈ e0 :: it, vA D F g m e.1 e.2) : vA (D + 1) F g m p (allC o e0.2 it) := by
  refine ⟨⟨hF, by omega⟩, fun nm => ?_⟩
  have hch : ∀ i : Nat, ∃ t : Bool, ∀ e, (e0 :: it)[i]? = some e → (∀ rest vs ts, pEv nm (e.2 ++ rest) vs ts = pEv nm rest vs (t :: ts)) ∧ ∀ d, D ≤ d → ∀ g' m', agF F g m g' m' → ∀ a, nmA g' m' a nm → (r_E d g' m').2 (some e.1) (some a) = some (if t = true then 1 else 0) := fun i => by
    by_cases hi : i < (e0 :: it).length
    · obtain ⟨t, h1, h2⟩ := (hit _ (List.getElem_mem hi)).2 nm
      refine ⟨t, fun e he => ?_⟩
      rw [List.getElem?_eq_getElem hi] at he
      cases he
      exact ⟨h1, h2⟩
    · exact ⟨true, fun e he => by rw [List.getElem?_eq_none (by omega)] at he; cases he⟩
  obtain ⟨f, hf⟩ := Classical.axiomOfChoice hch
  refine ⟨foB o f (f 0) 1 it.length, ?_, ?_⟩
  · have ev : ∀ (it' : List cAt) (C : aC) (t : Bool) (j : Nat), (∀ (i : Nat) e, it'[i]? = some e → ∀ rest vs ts, pEv nm (e.2 ++ rest) vs ts = pEv nm rest vs (f (j + i) :: ts)) → (∀ rest vs ts, pEv nm (C ++ rest) vs ts = pEv nm rest vs (t :: ts)) → ∀ rest vs ts, pEv nm (allC o C it' ++ rest) vs ts = pEv nm rest vs (foB o f t j it'.length :: ts) := by
      intro it'
      induction it' with
      | nil => intro C t j _ hC rest vs ts; exact hC rest vs ts
      | cons e it' ih =>
        intro C t j hi hC rest vs ts
        refine ih (C ++ e.2 ++ [(o, 0)]) (if o = 21 then t && f j else t || f j) (j + 1) (fun i e' he => ?_) (fun rest vs ts => ?_) rest vs ts
        · rw [show j + 1 + i = j + (i + 1) by omega]
          exact hi (i + 1) e' he
        · have h0 := hi 0 e rfl
          rw [Nat.add_zero] at h0
          rw [List.append_assoc, List.append_assoc, hC, h0]
          show pEv nm ((o, 0) :: rest) vs (f j :: t :: ts) = _
          rw [pEv_s, if_neg (by omega), if_neg (by omega), if_neg (by omega), if_neg (by omega), if_neg (by omega), if_neg (by omega), if_neg (by omega), if_pos (by omega)]
    exact ev it e0.2 (f 0) 1 (fun i e he => by
      have := (hf (i + 1) e he).1
      rw [show 1 + i = i + 1 by omega]; exact this) (hf 0 e0 rfl).1
  · intro d hd g' m' hag a ha
    obtain ⟨d, rfl⟩ : ∃ d', d = d' + 1 := ⟨d - 1, by omega⟩
    obtain ⟨k1, k2, k3⟩ := hag.2.2 p (Or.inl hF)
    have hk' : (zK g' p).1 = 11 := by rw [k1]; exact hk
    have hl' := lsR_c hl hag
    have hlen : hl'.2.2.2.1 = hl'.2.2.2.1 := rfl
    have hn := hl'.2.2.2.1
    rw [List.length_map, List.length_cons] at hn
    have hsz : (zI m' l 2).toInt = (it.length : Int) + 1 := by
      rw [hl'.2.2.1, List.length_map, List.length_cons]; omega
    have loop : ∀ (k Fu j : Nat) (u v : Int32), j + k = it.length + 1 → k < Fu → u.toInt = (ctB f 0 j : Int) → v.toInt = (j : Int) → ∃ w : Int32, zLoop (b_X10_is_4 g' m' (r_E d g' m') (some p) (some a)) Fu (u, v) = some w ∧ w.toInt = (ctB f 0 (it.length + 1) : Int) := by
      intro k
      induction k with
      | zero =>
        intro Fu j u v hj hFu hu hv
        obtain ⟨Fu, rfl⟩ : ∃ F', Fu = F' + 1 := ⟨Fu - 1, by omega⟩
        refine ⟨u, zLoop_l ?_, by rw [hu, show j = it.length + 1 by omega]⟩
        unfold b_X10_is_4
        dsimp only
        rw [e_gr (ci := 10) hk', k3, r1]
        dsimp only [Option.bind_some]
        rw [ls_size hl']
        dsimp only [Option.bind_some]
        rw [if_pos ((i_le hsz hv).mpr (by omega))]
      | succ k ih =>
        intro Fu j u v hj hFu hu hv
        obtain ⟨Fu, rfl⟩ : ∃ F', Fu = F' + 1 := ⟨Fu - 1, by omega⟩
        have hjl : j < (e0 :: it).length := by rw [List.length_cons]; omega
        obtain ⟨e, he⟩ : ∃ e, (e0 :: it)[j]? = some e := ⟨_, List.getElem?_eq_getElem hjl⟩
        have hfe := (hf j e he).2 d (by omega) g' m' hag a ha
        have hle := ctB_le f j 0
        have hmem : e ∈ e0 :: it := List.mem_of_getElem? he
        have hv1 := i_add hv (show (1 : Int32).toInt = 1 by decide) (by omega) (by omega)
        have hcs := ctB_s f j 0
        rw [Nat.zero_add] at hcs
        have hget : ((e0 :: it).map fun e => e.1)[j]? = some e.1 := by rw [List.getElem?_map, he]; rfl
        have hcst : zcst [8, 9, 10] g' (some e.1) = some () := by
          have hk1 := (hit e hmem).1.2
          rw [← (hag.2.2 e.1 (Or.inl (hit e hmem).1.1)).1] at hk1
          refine if_pos ?_
          rcases hk1 with q | q | q <;> rw [q] <;> decide
        have pre : ∀ X, pw ((if (if f j = true then (1 : Int32) else 0) = 0 then (zlt (u + (0 : Int32)) fun v11 => zlt (v + (1 : Int32)) fun v12 => some (.inr (v11, v12))) else (zlt (u + (1 : Int32)) fun v13 => zlt (v + (1 : Int32)) fun v14 => some (.inr (v13, v14))) : Option (Int32 ⊕ (Int32 × Int32)))) (fun z => z = X) → b_X10_is_4 g' m' (r_E d g' m') (some p) (some a) (u, v) = some X := fun X hX => by
          refine pw_to ?_
          unfold b_X10_is_4
          refine pw_beq (e_gr (ci := 10) hk') ?_
          rw [k3, r1]
          refine pw_beq (ls_size hl') (pw_ite (fun y => absurd ((i_le hsz hv).mp y) (by omega)) (fun _ => ?_))
          refine pw_beq (e_gr (ci := 10) hk') ?_
          rw [k3, r1]
          refine pw_beq (ls_get hl' hv hget) (pw_beq hcst (pw_beq hfe ?_))
          exact hX
        cases hfj : f j with
        | false =>
          rw [hfj] at pre hcs
          rw [if_neg (by decide)] at hcs
          have e1 := pre (.inr (u + 0, v + 1)) (pw_some rfl)
          rw [zLoop_r e1]
          refine ih Fu (j + 1) (u + 0) (v + 1) (by omega) (by omega) ?_ (by rw [hv1]; omega)
          rw [i_add hu (show (0 : Int32).toInt = 0 by decide) (by omega) (by omega)]; omega
        | true =>
          rw [hfj] at pre hcs
          rw [if_pos rfl] at hcs
          have e1 := pre (.inr (u + 1, v + 1)) (pw_some rfl)
          rw [zLoop_r e1]
          refine ih Fu (j + 1) (u + 1) (v + 1) (by omega) (by omega) ?_ (by rw [hv1]; omega)
          rw [i_add hu (show (1 : Int32).toInt = 1 by decide) (by omega) (by omega)]; omega
    obtain ⟨w, w1, w2⟩ := loop (it.length + 1) zFuel 0 0 0 (by omega) (by unfold zFuel; omega) (by show (0 : Int32).toInt = ((0 : Nat) : Int); decide) (by decide)
    have hle := ctB_le f it.length 1
    have hct : ctB f 0 (it.length + 1) = (if f 0 = true then 1 else 0) + ctB f 1 it.length := rfl
    rw [rE_k11 hk']
    unfold q_X10_is
    refine pw_to (pw_beq w1 (pw_beq (e_gi (ci := 10) hk') ?_))
    rw [k2]
    have qan := i_eq han (show (0 : Int32).toInt = 0 by decide)
    rcases ho with ⟨ho, hoa⟩ | ⟨ho, hoa⟩
    · subst ho
      refine pw_ite (fun y => absurd (qan.mp y) (by omega)) (fun _ => ?_)
      refine pw_beq (e_gr (ci := 10) hk') ?_
      rw [k3, r1]
      refine pw_beq (ls_size hl') ?_
      have q := i_eq w2 hsz
      have : foB 21 f (f 0) 1 it.length = true ↔ w = zI m' l 2 := by
        rw [foB_and, q, hct]
        cases f 0 <;> simp <;> omega
      by_cases c : w = zI m' l 2
      · rw [if_pos (this.mpr c)]
        exact pw_ite (fun _ => pw_some rfl) (fun y => absurd c y)
      · rw [if_neg (fun y => c (this.mp y))]
        exact pw_ite (fun y => absurd y c) (fun _ => pw_some rfl)
    · subst ho
      refine pw_ite (fun _ => ?_) (fun y => absurd (qan.mpr (by omega)) y)
      have q := i_le w2 (show (0 : Int32).toInt = 0 by decide)
      have : foB 22 f (f 0) 1 it.length = true ↔ ¬ w ≤ 0 := by
        rw [foB_or, q, hct]
        cases f 0 <;> simp <;> omega
      by_cases c : w ≤ 0
      · rw [if_neg (fun y => this.mp y c)]
        exact pw_ite (fun _ => pw_some rfl) (fun y => absurd c y)
      · rw [if_pos (this.mpr c)]
        exact pw_ite (fun y => absurd y c) (fun _ => pw_some rfl)
end
