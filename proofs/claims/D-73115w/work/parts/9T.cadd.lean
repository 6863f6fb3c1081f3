/-! COMPONENT READING: a list takes one more -/
set_option maxRecDepth 100000
theorem e_ast {g : zGd} {m : zMm} {a n : Nat} {i : Int32} {x : Int} {y : Nat} (h : zK g a = (105, n)) (hb : zB g ≤ a) (hx : i.toInt = x) (h0 : 0 ≤ x) (h1 : x < (n : Int)) (hy : zAsOk 4 (zK g y).1 = true) : zastr 4 g m (some a) i (some y) = some (zsR m a x.toNat (some y)) := by
  obtain ⟨p, q⟩ := e_ix hx h0 h1
  rw [← q]
  refine if_pos ⟨⟨⟨by rw [h], hb⟩, ?_⟩, hy⟩
  rw [h]; exact p
section
variable {g : zGd} {m : zMm} {l x : Nat} {xs : List Nat}
theorem bl_c {g' : zGd} {m' : zMm} (h : bl g m l xs) (hB : zB g' = zB g) (hS : zS g' = zS g) (hZ : zZ g ≤ zZ g') (hK : ∀ q, q < zZ g → zK g' q = zK g q) (hI : (zI m' l 2).toInt = (zI m l 2).toInt) (hR : zR m' l 1 = zR m l 1) (hd : ∀ d, zR m l 1 = some d → zR m' d = zR m d) : bl g' m' l xs := by
  obtain ⟨h1, h2, h3, h4, d, cap, h5, h6, h7, h8, h9, h10, h11, h12, h13⟩ := h
  refine ⟨by rw [hK l h3]; exact h1, by rw [hB]; exact h2, by omega, by rw [hI]; exact h4, d, cap, by rw [hR]; exact h5, by omega, h7, by rw [hK d h6]; exact h8, h9, h10, by rw [hB, hS]; exact h11, fun i x hx => by rw [hd d h5]; exact h12 i x hx, fun x hx => ?_⟩
  have k := h13 x hx
  exact ⟨by unfold kOk; rw [hK x k.2]; exact k.1, by have := k.2; omega⟩
theorem b_add (hW : cW g m) (hz : zB g ≤ zZ g) (h : bl g m l xs) (hn : xs.length ≤ 900) (hx : kOk g x) (hxz : x < zZ g) : ∃ g' m', f_J2_add g m (some l) (some x) = some (1, g', m') ∧ bl g' m' l (xs ++ [x]) ∧ (zB g' = zB g ∧ zS g' = zS g ∧ zZ g ≤ zZ g' ∧ zZ g' ≤ zZ g + 1 ∧ zL g ≤ zL g' ∧ zL g' ≤ zL g + 10 + 2 * xs.length) ∧ (∀ q, q < zZ g → zK g' q = zK g q) ∧ (∀ q, q < zZ g → q ≠ l → (∀ d, zR m l 1 = some d → zB g ≤ d → q ≠ d) → zI m' q = zI m q ∧ zJ m' q = zJ m q ∧ zR m' q = zR m q) ∧ ∃ d', zR m' l 1 = some d' ∧ (zR m l 1 = some d' ∨ zZ g ≤ d') := by
  obtain ⟨M, eM⟩ : ∃ M, M = zsI m l 0 (zI m l 0 + 1) := ⟨_, rfl⟩
  have h1 := h.1
  have h2 := h.2.1
  have h3 := h.2.2.1
  have MI : ∀ q, q ≠ l → zI M q = zI m q := fun q hq => by rw [eM, zsI_I, zup_r _ _ hq]
  have MJ : ∀ q, zJ M q = zJ m q := fun q => by rw [eM, zsI_J]
  have MR : ∀ q, zR M q = zR m q := fun q => by rw [eM, zsI_R]
  have Ml2 : zI M l 2 = zI m l 2 := by rw [eM, zsI_I, zup_k _ _ (by omega)]
  have hM : bl g M l xs := bl_c h rfl rfl (Nat.le_refl _) (fun _ _ => rfl) (by rw [Ml2]) (by rw [MR]) (fun d _ => MR d)
  have hWM : cW g M := cW_c ⟨rfl, rfl, fun q hq => ⟨rfl, MI q (by omega), MR q⟩⟩ hW
  have hM' := hM
  obtain ⟨-, -, -, h4, d, cap, h5, h6, h7, h8, h9, h10, h11, h12, h13⟩ := hM
  have hcap : (Int32.ofNat cap).toInt = (cap : Int) := i32_n (by omega)
  have step : ∃ d' g4 m5 cap', ((if zI M l 2 = Int32.ofNat cap then ((zrc g 17 (some l) (f_J2_grow g M (some l))).bind fun (r6, g7, m8) => some ((r6, g7, m8))) else (some ((some d, g, M))) : Option (Option Nat × zGd × zMm))) = some (some d', g4, m5) ∧ zK g4 d' = (105, cap') ∧ xs.length < cap' ∧ cap' ≤ 2000 ∧ zB g ≤ d' ∧ d' ≠ l ∧ d' < zZ g4 ∧ zR m5 l 1 = some d' ∧ (∀ (i : Nat) y, xs[i]? = some y → zR m5 d' i = some y) ∧ zI m5 l = zI M l ∧ (∀ q, q < zZ g → q ≠ l → zI m5 q = zI M q ∧ zJ m5 q = zJ M q ∧ zR m5 q = zR M q) ∧ (zR m l 1 = some d' ∨ d' = zZ g) ∧ (zB g4 = zB g ∧ zS g4 = zS g ∧ zZ g ≤ zZ g4 ∧ zZ g4 ≤ zZ g + 1 ∧ zL g ≤ zL g4 ∧ zL g4 ≤ zL g + 10 + 2 * xs.length) ∧ (∀ q, q < zZ g → zK g4 q = zK g q) := by
    by_cases c : zI M l 2 = Int32.ofNat cap
    · have hc := (i_eq h4 hcap).mp c
      obtain ⟨G, m', k, e, eG, k1, k2, k3, k4, k5, k6, k7⟩ := b_grow hWM hM' (by omega) h5 (by rw [h8]; show cap = xs.length; omega)
      have GK : ∀ q, q < zZ g → zK G q = zK g q := fun q hq => by rw [eG, zgrow_Kn _ _ _ _ (by omega)]
      refine ⟨zZ g, G, m', k, ?_, ?_, k1, by omega, hz, by omega, ?_, k6, k7, k4, fun q a b => k3 q (by omega) b, Or.inr rfl, ⟨?_, ?_, ?_, ?_, ?_, ?_⟩, GK⟩
      · rw [if_pos c, e_rc (ci := 17) h1, e]; rfl
      · rw [eG, zgrow_Ks]
      · rw [eG, zgrow_Z]; omega
      · rw [eG, zgrow_B]
      · rw [eG, zgrow_S]
      · rw [eG, zgrow_Z]; omega
      · rw [eG, zgrow_Z]; omega
      · rw [eG, zgrow_L]; omega
      · rw [eG, zgrow_L]; omega
    · have hc : ¬ ((xs.length : Int) = cap) := fun y => c ((i_eq h4 hcap).mpr y)
      have hcp : 0 < cap ∧ zB g ≤ d := by
        rcases h11 with y | y
        · exfalso; omega
        · exact y
      refine ⟨d, g, M, cap, by rw [if_neg c], h8, by omega, h10, hcp.2, h7, h6, h5, h12, rfl, fun q _ _ => ⟨rfl, rfl, rfl⟩, Or.inl (by rw [← MR]; exact h5), ⟨rfl, rfl, by omega, by omega, by omega, by omega⟩, fun _ _ => rfl⟩
  obtain ⟨d', g4, m5, cap', e, s1, s2, s3, s4, s5, s6, s7, s8, s9, s10, s11, ⟨t1, t2, t3, t4, t5, t6⟩, s12⟩ := step
  have K4l : (zK g4 l).1 = 17 + 1 := by rw [s12 l h3]; exact h1
  have hxk : zAsOk 4 (zK g4 x).1 = true := by rw [s12 x hxz]; exact kOk_z hx
  obtain ⟨A, eA⟩ : ∃ A, A = zsR m5 d' xs.length (some x) := ⟨_, rfl⟩
  have ast : zastr 4 g4 m5 (some d') (zI M l 2) (some x) = some A := by
    rw [e_ast s1 (by omega) h4 (by omega) (by omega) hxk, eA, Int.toNat_natCast]
  have hadd := i_add h4 (show (1 : Int32).toInt = 1 by decide) (by omega) (by omega)
  refine ⟨g4, zsI A l 2 (zI M l 2 + 1), ?_, ⟨K4l, by rw [t1]; exact h2, by omega, ?_, d', cap', ?_, s6, s5, s1, ?_, s3, Or.inr ⟨by omega, by rw [t1]; exact s4⟩, fun i y hy => ?_, fun y hy => ?_⟩, ⟨t1, t2, t3, t4, t5, t6⟩, s12, fun q a b cc => ?_, d', ?_, ?_⟩
  · unfold f_J2_add
    rw [e_gi (ci := 17) h1]
    dsimp only [Option.bind_some]
    rw [e_pi (ci := 17) h1 h2, ← eM]
    dsimp only [Option.bind_some]
    rw [e_gr (ci := 17) h1, h5]
    dsimp only [Option.bind_some]
    rw [e_gi (ci := 17) h1]
    dsimp only [Option.bind_some]
    rw [e_rc (ci := 17) h1]
    unfold f_J2_add_2
    rw [e_alen h8 (by omega)]
    dsimp only [Option.bind_some]
    rw [e]
    dsimp only [Option.bind_some]
    rw [ast]
    dsimp only [Option.bind_some]
    rw [e_pi (ci := 17) K4l (by rw [t1]; exact h2)]
    rfl
  · rw [zsI_I, zup_s, hadd, List.length_append]; rfl
  · rw [zsI_R, eA, zsR_R, zup_r _ _ (by omega)]; exact s7
  · rw [List.length_append]; exact s2
  · rw [zsI_R, eA, zsR_R]
    rcases Nat.lt_or_ge i xs.length with y1 | y1
    · rw [zup_k _ _ (by omega)]
      rw [List.getElem?_append_left y1] at hy
      exact s8 i y hy
    · rw [List.getElem?_append_right y1] at hy
      have hi : i - xs.length = 0 := by
        rcases Nat.lt_or_ge (i - xs.length) 1 with y2 | y2
        · omega
        · rw [List.getElem?_eq_none (by show 1 ≤ i - xs.length; exact y2)] at hy; cases hy
      rw [hi] at hy
      cases hy
      rw [show i = xs.length by omega, zup_s]
  · have hy : kOk g y ∧ y < zZ g := by
      rcases List.mem_append.mp hy with y1 | y1
      · exact h13 y y1
      · rw [List.mem_singleton.mp y1]; exact ⟨hx, hxz⟩
    exact ⟨by unfold kOk; rw [s12 y hy.2]; exact hy.1, by have := hy.2; omega⟩
  · have hqd : q ≠ d' := by
      rcases s11 with y | y
      · exact cc d' y s4
      · omega
    have u := s10 q a b
    rw [zsI_I, zsI_J, zsI_R, zup_r _ _ b, eA, zsR_I, zsR_J, zsR_R, zup_r _ _ hqd]
    exact ⟨u.1.trans (MI q b), u.2.1.trans (MJ q), u.2.2.trans (MR q)⟩
  · rw [zsI_R, eA, zsR_R, zup_r _ _ (by omega)]; exact s7
  · rcases s11 with y | y
    · exact Or.inl y
    · exact Or.inr (by omega)
/-- a sign as a number's cell -/
theorem b_val (hW : cW g m) {v : Int32} {s : Int} (hv : v.toInt = s) (h0 : 0 ≤ s) (h1 : s < 128) : ∃ q, f_J15_valueOf g m v = some (some q, g, m) ∧ q < zB g ∧ (zK g q).1 = 20 ∧ (zI m q 0).toInt = s := by
  obtain ⟨-, -, -, -, a, a1, a2, a3, a4⟩ := hW
  have hw := i_add hv (show (128 : Int32).toInt = 128 by decide) (by omega) (by omega)
  obtain ⟨q, q1, q2, q3, q4⟩ := a4 (s + 128).toNat (by omega)
  refine ⟨q, ?_, q2, q3, by rw [q4]; omega⟩
  unfold f_J15_valueOf zEx
  rw [if_neg (fun y => by have := (i_lt hv (show (-128 : Int32).toInt = -128 by decide)).mp y; omega), if_neg (fun y => by have := (i_lt (show (127 : Int32).toInt = 127 by decide) hv).mp y; omega), a1, e_aldr a3 hw (by omega) (by omega), q1]
  rfl
end
