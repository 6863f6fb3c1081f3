/-! COMPONENT READING: lists are laid -/
set_option maxRecDepth 100000
def kOk (g : zGd) (x : Nat) : Prop := 1 ≤ (zK g x).1 ∧ (zK g x).1 ≤ 20
/-- a list that grows -/
def bl (g : zGd) (m : zMm) (l : Nat) (xs : List Nat) : Prop := (zK g l).1 = 18 ∧ zB g ≤ l ∧ l < zZ g ∧ (zI m l 2).toInt = (xs.length : Int) ∧ ∃ d cap, zR m l 1 = some d ∧ d < zZ g ∧ d ≠ l ∧ zK g d = (105, cap) ∧ xs.length ≤ cap ∧ cap ≤ 2000 ∧ ((cap = 0 ∧ zS g 3 = some d ∧ d < zB g) ∨ (0 < cap ∧ zB g ≤ d)) ∧ (∀ (i : Nat) x, xs[i]? = some x → zR m d i = some x) ∧ ∀ x ∈ xs, kOk g x ∧ x < zZ g
theorem kOk_z {g : zGd} {x : Nat} (h : kOk g x) : zAsOk 4 (zK g x).1 = true := by
  unfold zAsOk zAs
  rw [if_pos rfl, List.any_eq_true]
  refine ⟨(zK g x).1 - 1, ?_, ?_⟩
  · have : ∀ k : Fin 20, k.val ∈ [0, 1, 2, 3, 4, 5, 6, 7, 8, 9, 10, 11, 12, 13, 14, 15, 16, 17, 18, 19] := by decide
    exact this ⟨(zK g x).1 - 1, by have := h.1; have := h.2; omega⟩
  · have := h.1
    exact beq_iff_eq.mpr (by omega)
theorem i_half {n : Nat} (h : n ≤ 2000) : (zshr (Int32.ofNat n) 1).toInt = (n : Int) / 2 := by
  unfold zshr
  have e : ((1 : Int32) &&& 31) = 1 := by decide
  rw [e]
  have e2 : (Int32.ofNat n >>> (1 : Int32)).toInt = ((Int32.ofNat n).toBitVec.sshiftRight (1 : Nat)).toInt := rfl
  rw [e2, BitVec.toInt_sshiftRight, Int.shiftRight_eq_div_pow]
  have e3 : (Int32.ofNat n).toBitVec.toInt = (n : Int) := i32_n (by omega)
  rw [e3]; rfl
theorem e_newa {t : Nat} {g : zGd} {m : zMm} {n : Int32} {k : Nat} (h : n.toInt = (k : Int)) (hk : k ≤ 100000) : znewa t g m n = some (zgrow g k t k, zfresh m (zZ g)) := by
  have e : n.toNatClampNeg = k := by
    show n.toInt.toNat = k
    omega
  have n0 : (0 : Int32).toInt = 0 := by decide
  unfold znewa
  rw [if_pos ⟨fun y => by have := (i_lt h n0).mp y; omega, by rw [e]; omega⟩, e]
section
variable {g : zGd} {m : zMm} {l : Nat} {xs : List Nat}
/-- a new list -/
theorem b_new (hW : cW g m) (hz : zB g ≤ zZ g) : ∃ m', f_J2_init (zgrow g (zSl 17) 18 0) (zfresh m (zZ g)) (some (zZ g)) = some m' ∧ bl (zgrow g (zSl 17) 18 0) m' (zZ g) [] ∧ (∀ q, q ≠ zZ g → zI m' q = zI m q ∧ zJ m' q = zJ m q ∧ zR m' q = zR m q) ∧ ∀ d, zR m' (zZ g) 1 = some d → d < zB g := by
  obtain ⟨z, ez⟩ : ∃ z, z = zZ g := ⟨_, rfl⟩
  obtain ⟨G, eG⟩ : ∃ G, G = zgrow g (zSl 17) 18 0 := ⟨_, rfl⟩
  obtain ⟨A, eA⟩ : ∃ A, A = zfresh m z := ⟨_, rfl⟩
  rw [← ez, ← eG, ← eA]
  have Kz : (zK G z).1 = 17 + 1 := by rw [eG, ez, zgrow_Ks]
  have Bz : zB G ≤ z := by rw [eG, zgrow_B, ez]; exact hz
  obtain ⟨-, -, -, ⟨d, d1, d2, d3⟩, -⟩ := hW
  have GS : zS G = zS g := by rw [eG, zgrow_S]
  refine ⟨zsR (zsI A z 0 0) z 1 (zS G 3), ?_, ⟨Kz, Bz, by rw [eG, zgrow_Z]; omega, ?_, d, 0, ?_, ?_, by omega, ?_, Nat.le_refl _, by omega, Or.inl ⟨rfl, by rw [GS]; exact d1, by rw [eG, zgrow_B]; exact d2⟩, fun i x hx => (by cases hx), fun x hx => absurd hx List.not_mem_nil⟩, fun q hq => ⟨?_, ?_, ?_⟩, fun d' hd' => ?_⟩
  · unfold f_J2_init
    have e1 : f_J1_init G A (some z) = some (zsI A z 0 0) := by
      unfold f_J1_init
      show ((f_J0_init G A (some z)).bind fun _ => (zpi G A 17 0 (some z) 0).bind fun m1 => some m1) = _
      have e0 : f_J0_init G A (some z) = some () := rfl
      rw [e0, Option.bind_some, e_pi (ci := 17) Kz Bz]; rfl
    show ((f_J1_init G A (some z)).bind fun m1 => (zpr G m1 17 1 (some z) (zS G 3)).bind fun m2 => some m2) = _
    rw [e1, Option.bind_some, e_pr (ci := 17) Kz Bz]; rfl
  · rw [zsR_I, zsI_I, zup_k _ _ (by omega), eA, zfresh_I]; decide
  · rw [zsR_R, zup_s, GS]; exact d1
  · rw [eG, zgrow_Z]; omega
  · rw [eG, zgrow_Kn _ _ _ _ (by omega)]; exact d3
  · rw [zsR_I, zsI_I, zup_r _ _ hq, eA]; exact zfresh_In m hq
  · rw [zsR_J, zsI_J, eA]; exact zfresh_Jn m hq
  · rw [zsR_R, zup_r _ _ hq, zsI_R, eA]; exact zfresh_Rn m hq
  · rw [zsR_R, zup_s, GS, d1] at hd'
    cases hd'
    exact d2
/-- a list grows its room -/
theorem b_grow (hW : cW g m) (h : bl g m l xs) (hn : xs.length ≤ 1000) {d : Nat} (hd : zR m l 1 = some d) (hfull : (zK g d).2 = xs.length) : ∃ G m' k, f_J2_grow g m (some l) = some (some (zZ g), G, m') ∧ G = zgrow g k 105 k ∧ xs.length < k ∧ k ≤ 10 + 2 * xs.length ∧ (∀ q, q ≠ zZ g → q ≠ l → zI m' q = zI m q ∧ zJ m' q = zJ m q ∧ zR m' q = zR m q) ∧ zI m' l = zI m l ∧ zJ m' l = zJ m l ∧ zR m' l 1 = some (zZ g) ∧ ∀ (i : Nat) x, xs[i]? = some x → zR m' (zZ g) i = some x := by
  obtain ⟨h1, h2, h3, h4, d', cap, h5, h6, h7, h8, h9, h10, h11, h12, h13⟩ := h
  rw [hd] at h5
  cases h5
  rw [h8] at hfull
  have hfull : cap = xs.length := hfull
  have n0 : (0 : Int32).toInt = 0 := by decide
  have one : (1 : Int32).toInt = 1 := by decide
  have ten : (10 : Int32).toInt = 10 := by decide
  have hs1 := i_add h4 one (by omega) (by omega)
  have hcap : (Int32.ofNat cap).toInt = (cap : Int) := i32_n (by omega)
  have ln : zalen g (some d) = some (Int32.ofNat cap) := e_alen h8 (by omega)
  obtain ⟨z, ez⟩ : ∃ z, z = zZ g := ⟨_, rfl⟩
  have pre : ∀ X, f_J2_grow_2 g m (some l) (zI m l 2 + 1) = some X → f_J2_grow g m (some l) = some X := fun X hX => by
    unfold f_J2_grow
    rw [e_gi (ci := 17) h1]
    dsimp only [Option.bind_some]
    rw [e_rc (ci := 17) h1, hX]; rfl
  have Kl : ∀ k, (zK (zgrow g k 105 k) l).1 = 17 + 1 := fun k => by rw [zgrow_Kn _ _ _ _ (by omega)]; exact h1
  rcases h11 with ⟨c0, hst, hdb⟩ | ⟨cp, hdb⟩
  · -- the first
    have hx0 : xs = [] := List.length_eq_zero_iff.mp (by omega)
    subst hx0
    refine ⟨zgrow g 10 105 10, zsR (zfresh m z) l 1 (some z), 10, pre _ ?_, rfl, by decide, by decide, fun q a b => ?_, ?_, ?_, ?_, fun i x hx => (by cases hx)⟩
    · unfold f_J2_grow_2
      rw [e_gr (ci := 17) h1, hd]
      dsimp only [Option.bind_some]
      rw [ln]
      dsimp only [Option.bind_some]
      have e1 : f_J7_max 10 (zI m l 2 + 1) = some 10 := by
        unfold f_J7_max
        rw [if_neg (fun y => by have := (i_lt ten hs1).mp y; rw [List.length_nil] at this; omega)]
      rw [if_neg (fun y => by have := (i_lt n0 hcap).mp y; omega), if_pos hst.symm, e1]
      dsimp only [Option.bind_some]
      rw [e_newa (k := 10) ten (by omega)]
      dsimp only [Option.bind_some, zlt]
      rw [← ez, e_pr (ci := 17) (Kl 10) (by rw [zgrow_B]; exact h2)]
      rfl
    · rw [zsR_I, zsR_J, zsR_R, zup_r _ _ b, zfresh_In m (by omega), zfresh_Jn m (by omega), zfresh_Rn m (by omega)]
      exact ⟨rfl, rfl, rfl⟩
    · rw [zsR_I]; exact zfresh_In m (by omega)
    · rw [zsR_J]; exact zfresh_Jn m (by omega)
    · rw [zsR_R, zup_s, ez]
  · -- more
    obtain ⟨k, ek⟩ : ∃ k : Nat, k = cap + (if cap / 2 < 1 then 1 else cap / 2) := ⟨_, rfl⟩
    have hk1 : xs.length < k ∧ k ≤ 10 + 2 * xs.length := by
      rw [ek]
      split <;> omega
    obtain ⟨nl, e1, e2⟩ : ∃ nl : Int32, f_J11_newLength g m (Int32.ofNat cap) (zI m l 2 + 1 - Int32.ofNat cap) (zshr (Int32.ofNat cap) 1) = some (nl, g, m) ∧ nl.toInt = (k : Int) := by
      have hmin := i_sub hs1 hcap (by omega) (by omega)
      have hhalf := i_half (n := cap) (by omega)
      have big : (2147483639 : Int32).toInt = 2147483639 := by decide
      obtain ⟨mx, m1, m2⟩ : ∃ mx : Int32, f_J7_max (zI m l 2 + 1 - Int32.ofNat cap) (zshr (Int32.ofNat cap) 1) = some mx ∧ mx.toInt = (if cap / 2 < 1 then 1 else (cap : Int) / 2) := by
        unfold f_J7_max
        have q := i_lt hmin hhalf
        by_cases c : zI m l 2 + 1 - Int32.ofNat cap < zshr (Int32.ofNat cap) 1
        · have := q.mp c
          refine ⟨_, by rw [if_pos c], ?_⟩
          rw [hhalf, if_neg (by omega)]
        · have q' : ¬ ((xs.length : Int) + 1 - cap < (cap : Int) / 2) := fun y => c (q.mpr y)
          refine ⟨_, by rw [if_neg c], ?_⟩
          rw [hmin]
          split <;> omega
      have hsum := i_add hcap m2 (by split <;> omega) (by split <;> omega)
      refine ⟨Int32.ofNat cap + mx, ?_, ?_⟩
      · unfold f_J11_newLength
        rw [m1]
        dsimp only [Option.bind_some, zlt]
        rw [if_neg (fun y => by have := (i_le hsum n0).mp y; split at this <;> omega), if_neg (fun y => by have := (i_lt big hsum).mp y; split at this <;> omega)]
        rfl
      · rw [hsum, ek]
        split
        · omega
        · omega
    obtain ⟨A, eA⟩ : ∃ A, A = zfresh m z := ⟨_, rfl⟩
    obtain ⟨G, eG⟩ : ∃ G, G = zgrow g k 105 k := ⟨_, rfl⟩
    have Gz : zK G z = (105, k) := by rw [eG, ez, zgrow_Ks]
    have Gd : zK G d = (105, cap) := by rw [eG, zgrow_Kn _ _ _ _ (by omega)]; exact h8
    obtain ⟨C, eC⟩ : ∃ C : zMm, C = (A.1, A.2.1, zrow A.2.2 z (va_cpy (zR A d) (zR A z) 0 0 cap)) := ⟨_, rfl⟩
    have AR : ∀ q, q ≠ z → zR A q = zR m q := fun q hq => by rw [eA]; exact zfresh_Rn m hq
    have CR : ∀ q, q ≠ z → zR C q = zR m q := fun q hq => by
      rw [← AR q hq, eC]
      funext j
      exact if_neg hq
    have CI : zI C = zI A := by rw [eC]; rfl
    have CJ : zJ C = zJ A := by rw [eC]; rfl
    have cp : f_J12_copyOf g m (some d) nl = some (some z, G, C) := by
      unfold f_J12_copyOf
      have hgc : zgc g (some d) = some (zS g 20) := if_pos (by rw [h8])
      rw [hgc]
      dsimp only [Option.bind_some]
      unfold f_J12_copyOf_2
      rw [if_pos rfl, e_newa e2 (by omega)]
      dsimp only [Option.bind_some, zlt]
      rw [← ez, ← eA, ← eG, e_alen Gd (by omega)]
      dsimp only [Option.bind_some]
      have hmn : f_J7_min (Int32.ofNat cap) nl = some (Int32.ofNat cap) := by
        unfold f_J7_min
        rw [if_neg (fun y => by have := (i_lt e2 hcap).mp y; omega)]
      rw [hmn]
      dsimp only [Option.bind_some]
      have cc : (Int32.ofNat cap).toNatClampNeg = cap := by
        show (Int32.ofNat cap).toInt.toNat = cap
        omega
      have z0 : (0 : Int32).toNatClampNeg = 0 := by decide
      have hcp : zcpr 4 G A (some d) 0 (some z) 0 (Int32.ofNat cap) = some C := by
        have : zcpr 4 G A (some d) 0 (some z) 0 (Int32.ofNat cap) = some (A.1, A.2.1, zrow A.2.2 z (va_cpy (zR A d) (zR A z) (0 : Int32).toNatClampNeg (0 : Int32).toNatClampNeg (Int32.ofNat cap).toNatClampNeg)) := by
          refine if_pos ⟨⟨by rw [Gd], by rw [Gz]⟩, ⟨⟨by rw [eG, zgrow_B]; omega, by decide, by decide, fun y => by have := (i_lt hcap n0).mp y; omega⟩, ?_, ?_⟩, ?_⟩
          · rw [z0, cc, Gd]; show 0 + cap ≤ cap; omega
          · rw [z0, cc, Gz]; show 0 + cap ≤ k; omega
          · rw [z0, cc, List.all_eq_true]
            intro i hi
            have hi := List.mem_range.mp hi
            rw [Nat.zero_add, AR d (by omega)]
            have hx : xs[i]? = some xs[i] := List.getElem?_eq_getElem (by omega)
            rw [h12 i _ hx]
            have hko := h13 _ (List.getElem_mem (show i < xs.length by omega))
            show zAsOk 4 (zK G xs[i]).1 = true
            rw [eG, zgrow_Kn _ _ _ _ (by have := hko.2; omega)]
            exact kOk_z hko.1
        rw [this, z0, cc, ← eC]
      rw [hcp]; rfl
    refine ⟨G, zsR C l 1 (some z), k, pre _ ?_, eG, hk1.1, hk1.2, fun q a b => ?_, ?_, ?_, ?_, fun i x hx => ?_⟩
    · unfold f_J2_grow_2
      rw [e_gr (ci := 17) h1, hd]
      dsimp only [Option.bind_some]
      rw [ln]
      dsimp only [Option.bind_some]
      rw [if_pos ((i_lt n0 hcap).mpr (by omega))]
      unfold zEx
      dsimp only [Option.bind_some]
      rw [e1]
      dsimp only [Option.bind_some]
      rw [e_gr (ci := 17) h1, hd]
      dsimp only [Option.bind_some]
      rw [cp]
      dsimp only [Option.bind_some]
      have KlG : (zK G l).1 = 17 + 1 := by rw [eG]; exact Kl k
      rw [e_pr (ci := 17) KlG (by rw [eG, zgrow_B]; exact h2), ez]
      rfl
    · rw [zsR_I, zsR_J, zsR_R, zup_r _ _ b, CI, CJ, CR q (by omega), eA, zfresh_In m (by omega), zfresh_Jn m (by omega)]
      exact ⟨rfl, rfl, rfl⟩
    · rw [zsR_I, CI, eA]; exact zfresh_In m (by omega)
    · rw [zsR_J, CJ, eA]; exact zfresh_Jn m (by omega)
    · rw [zsR_R, zup_s, ez]
    · have hi : i < xs.length := by
        rcases Nat.lt_or_ge i xs.length with y | y
        · exact y
        · rw [List.getElem?_eq_none y] at hx; cases hx
      rw [zsR_R, zup_r _ _ (by omega), ← ez, eC]
      have : zrow A.2.2 z (va_cpy (zR A d) (zR A z) 0 0 cap) z i = zR A d i := by
        unfold zrow va_cpy
        rw [if_pos rfl, if_pos (by omega), show 0 + (i - 0) = i by omega]
      refine Eq.trans this ?_
      rw [AR d (by omega)]
      exact h12 i x hx
end
