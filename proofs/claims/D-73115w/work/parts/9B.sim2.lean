/-! READING: by descent and by piles, all of it -/
set_option maxRecDepth 100000
def nxP (s : Int) : Prop := True ∧ s ≠ 42 ∧ s ≠ 47
def nxS (s : Int) : Prop := nxP s ∧ s ≠ 43 ∧ s ≠ 45
def nxB (s : Int) : Prop := nxS s ∧ s ≠ 218 ∧ s ≠ 218
def nxE (s : Int) : Prop := nxB s ∧ s ≠ 217 ∧ s ≠ 217
theorem nxS_i {s : Int} (h : nxS s) : s ≠ 42 ∧ s ≠ 47 ∧ s ≠ 43 ∧ s ≠ 45 := ⟨h.1.2.1, h.1.2.2, h.2.1, h.2.2⟩
theorem bt_n {s on cc : Int} (h : nxS s) (k : on = 41 → (if cc = 0 then aCm s else if s = 218 then 21 else if s = 217 then 22 else -1) = -1) : bt s on cc = -1 := by
  obtain ⟨a, b, c, d⟩ := nxS_i h
  unfold bt
  rw [if_neg c, if_neg d, if_neg a, if_neg b]
  by_cases x : on = 41
  · rw [if_pos x]; exact k x
  · rw [if_neg x]
theorem rk_lo {y : Int} (h : y < 40) : 1 ≤ rk y := by
  unfold rk
  rw [if_neg (by omega)]
  repeat' split
  all_goals omega
theorem aCm_r {s x : Int} (h : aCm s = x) (hx : x ≠ -1) : 10 ≤ x ∧ x ≤ 15 ∧ s ≠ 301 ∧ s ≠ 43 ∧ s ≠ 45 ∧ s ≠ 42 ∧ s ≠ 47 := by
  subst h
  unfold aCm at hx ⊢
  repeat' split
  all_goals first | (exfalso; apply hx; split <;> first | rfl | omega) | omega
section
variable {E0 : zP} {lx : Int → Int × Int × Int × Int} {tx nn kd : Int}
set_option maxHeartbeats 1000000 in
theorem sim_ask (hl : aLx lx E0 nn) (hn : nn ≤ 300) (hE : E0 0 12 = tx) (t0 : 0 ≤ tx) (t1 : tx ≤ 2043) (hE14 : E0 0 14 = kd - 200) (hk : kd = 200 ∨ kd = 201) {rec : aTb} (hA : cFn E0 tx nn 4 3 2 100 nxS true rec.1) (hS : cFn E0 tx nn 5 5 3 2 nxS false rec.2.2.2.2.2.2) : cFn E0 tx nn 4 3 2 100 nxS true (aAsk lx rec) := by
  intro st P C T res hres hm hv hlo hon hP hC _
  have hon := hon rfl
  obtain ⟨y, P0, rfl⟩ : ∃ y P0, P = y :: P0 := by
    cases P with
    | nil => exact absurd hon (by show ¬ (-1 : Int) = 41; omega)
    | cons y P0 => exact ⟨y, P0, rfl⟩
  have hy : rk y < 4 := hlo
  have ho8 := hv.2.2
  have hlen : (y :: P0).length < 149 := by omega
  have hcP : cP (y :: P0) = 0 := by
    show (if rk y ≤ 4 then (if rk y = 4 then 1 else 0) else cP P0) = 0
    rw [if_pos (by omega), if_neg (by omega)]
  have e0 : ∀ x : Int, st.o - cntU [] + x = st.o + x := fun x => by show st.o - 0 + x = _; omega
  unfold aAsk at hres
  by_cases h219 : st.s = 219
  · rw [if_pos h219] at hres
    have hs301 : st.s ≠ 301 := by omega
    have hadv := hv.2.1 hs301
    have hbeg : p_X2_beginOne T = p_X2_opened T 20 := by
      rw [k_begin hE14 hk hm (by omega)]
      unfold bBeg
      have ha : aA (y :: P0) ≠ 0 := by
        show (if oN (y :: P0) = 41 ∧ (40 ≤ y ∨ (1 ≤ rk y ∧ rk y ≤ 3)) then (1 : Int) else 0) ≠ 0
        have : 40 ≤ y ∨ (1 ≤ rk y ∧ rk y ≤ 3) := by
          by_cases z : 40 ≤ y
          · exact Or.inl z
          · have := rk_lo (y := y) (by omega)
            exact Or.inr (by omega)
        rw [if_pos ⟨hon, this⟩]; omega
      have hnm : ¬ 0 ≤ aNm st.s := by rw [h219]; decide
      rw [if_neg (by omega), if_neg hnm, if_neg (by omega), if_neg (by omega), if_neg (by omega), if_neg (by omega), if_neg (by omega), if_pos h219, if_neg ha]
    have hop := k_opened hl hm hv (by omega) (by omega) (by omega) 20
    unfold aOp at hres
    by_cases h8 : st.o = 8
    · rw [if_pos h8] at hres
      cases hres
      have hb := s_begin hm (hbeg.trans (hop.1 h8))
      rw [if_neg (by omega)] at hb
      exact ⟨⟨Int.le_refl _, by have := hv.1; show st.p ≤ nn; omega⟩, mFl.one (by omega) hb (mS_p hm) hm.2.1⟩
    · rw [if_neg h8] at hres
      obtain ⟨T1, eT1, m1⟩ := hop.2 h8
      have hb := s_begin hm (hbeg.trans eT1)
      rw [if_pos rfl] at hb
      have hvn := aV_nx hl (st := ⟨st.s, st.n, st.p, st.a, st.o + 1⟩) ⟨hv.1, hv.2.1, by show 0 ≤ st.o + 1 ∧ st.o + 1 ≤ 8; omega⟩
      have hnp := nx_p hl hv
      obtain ⟨s1, es1⟩ : ∃ s1, s1 = aNx lx ⟨st.s, st.n, st.p, st.a, st.o + 1⟩ := ⟨_, rfl⟩
      have hso : s1.o = st.o + 1 := by rw [es1]; rfl
      have hsp : st.a ≤ s1.p := by rw [es1]; exact hnp
      have m1 : mS E0 tx s1 (20 :: y :: P0) s1.o 0 C T1 := by rw [hso, es1]; exact m1
      rw [← es1] at hvn
      have hres : ((rec.1 s1).bind fun r => aB r fun x => some (.inl (x.1 ++ [(20, 0)], aSh x.2))) = some res := by rw [es1]; exact hres
      cases e3 : rec.1 s1 with
      | none => rw [e3] at hres; cases hres
      | some r3 =>
        rw [e3] at hres
        have p3 := hA s1 (20 :: y :: P0) C T1 r3 e3 m1 hvn (by show rk 20 < 4; decide) (fun _ => hon) (by rw [List.length_cons, hso]; omega) (by rw [List.length_cons]; omega) (fun x => by cases x)
        have g1 : mGo (s1.p - st.p) T T1 := mGo.one (by omega) hb
        cases r3 with
        | inr q =>
          cases hres
          obtain ⟨pq, p3⟩ := p3
          exact ⟨by omega, mFl.tr g1 p3 (by omega)⟩
        | inl x =>
          obtain ⟨L3, st3⟩ := x
          cases hres
          obtain ⟨R3, C3, T3, k1, k2, k3, k4, k5, k6, k7, k8, k9, k10, k11⟩ := p3
          have k11 := k11 rfl
          have hc20 : cntU [20] = 1 := by decide
          refine ⟨R3 ++ [20], C3, T3, g1.tr k1 (by show _ ≤ st3.p - st.p; omega), ?_, ?_, ?_, ⟨k5.1, k5.2.1, ?_⟩, ?_, ?_, ?_, ⟨?_, ?_⟩, k10, fun _ => ?_⟩
          · rw [List.append_assoc, List.singleton_append, cnt_a, hc20]
            have e9 : s1.o - cntU [] + cntU R3 = st.o - cntU [] + (cntU R3 + 1) := by rw [hso]; omega
            rw [e9] at k2; exact k2
          · rw [emz_a, ← List.append_assoc, k3, show emz [] = [] from rfl, List.append_nil, List.append_nil, List.append_assoc]; rfl
          · intro z hz
            rcases List.mem_append.mp hz with a | a
            · exact k4 z a
            · rw [List.mem_singleton.mp a]; decide
          · show 0 ≤ st3.o - 1 ∧ st3.o - 1 ≤ 8
            omega
          · show st3.o - 1 = st.o
            omega
          · show st.p < st3.p
            omega
          · show _ ≤ st3.p
            rw [List.length_append, List.length_singleton]
            rw [List.length_cons] at k8
            omega
          · rw [List.length_append, List.length_singleton]
            have := k9.2
            rw [List.length_cons] at this
            omega
          · rw [List.length_append, List.length_singleton]
            have := k9.2
            rw [List.length_cons] at this
            omega
          · rw [List.append_assoc, List.singleton_append]; exact k11
  · rw [if_neg h219] at hres
    cases e1 : rec.2.2.2.2.2.2 st with
    | none => rw [e1] at hres; cases hres
    | some r1 =>
      rw [e1] at hres
      have p1 := hS st (y :: P0) C T r1 e1 hm hv (lowP_m (by omega) hlo) (fun x => by cases x) (by omega) hC (fun _ x => absurd x h219)
      cases r1 with
      | inr q => cases hres; exact p1
      | inl x1 =>
        obtain ⟨L1, st1⟩ := x1
        obtain ⟨R1, C1, T1, g1, g2, g3, g4, g5, g6, g7, g8, g9, g10, -⟩ := p1
        rw [e0] at g2
        have hres : (if aCm st1.s = -1 then some (.inr (1, st1.p)) else (rec.2.2.2.2.2.2 (aNx lx st1)).bind fun r2 => aB r2 fun y => some (.inl (L1 ++ y.1 ++ [(aCm st1.s, 0)], y.2))) = some res := hres
        have honR : oN (R1 ++ y :: P0) = 41 := by rw [oN_a _ _ (fun x hx => by have := g4 x hx; omega)]; exact hon
        have hcR : cP (R1 ++ y :: P0) = 0 := by rw [cP_a _ _ g4]; exact hcP
        have hv5 := g5.1
        have hlR : (R1 ++ y :: P0).length < 149 := by rw [List.length_append]; omega
        have gol : (C1 ++ emz R1).length = C1.length + R1.length := by rw [List.length_append]; unfold emz; rw [List.length_map]
        have c0 := cnt_0 R1
        by_cases hcm : aCm st1.s = -1
        · rw [if_pos hcm] at hres
          cases hres
          have hbt : bt st1.s (oN (R1 ++ y :: P0)) (cP (R1 ++ y :: P0)) = -1 := bt_n g10 (fun _ => by rw [hcR, if_pos rfl]; exact hcm)
          have hpt : pt st1.s (oN (R1 ++ y :: P0)) (cP (R1 ++ y :: P0)) = -1 := by
            rw [honR, hcR]; unfold pt
            rw [if_neg (by omega), if_pos rfl]
            split <;> rfl
          have hb := s_none g2 hlR hbt hpt (by rw [honR]; omega)
          exact ⟨⟨by omega, by show st1.p ≤ nn; omega⟩, mFl.tr g1 (mFl.one (k := 0) (by omega) hb (mS_p g2) g2.2.1) (by omega)⟩
        · rw [if_neg hcm] at hres
          obtain ⟨x, ex⟩ : ∃ x, x = aCm st1.s := ⟨_, rfl⟩
          have hx := aCm_r ex.symm (by rw [ex]; exact hcm)
          have hrx : rk x = 4 := by
            unfold rk
            rw [if_neg (by omega), if_neg (by omega), if_neg (by omega), if_neg (by omega), if_pos (by omega)]
          have hcx : cntU [x] = 0 := by
            show (if rk x = 7 ∨ x = 20 then (1 : Int) else 0) + 0 = 0
            rw [if_neg (by omega)]; rfl
          have hbt : bt st1.s (oN (R1 ++ y :: P0)) (cP (R1 ++ y :: P0)) = x := by
            rw [honR, hcR]; unfold bt
            rw [if_neg hx.2.2.2.1, if_neg hx.2.2.2.2.1, if_neg hx.2.2.2.2.2.1, if_neg hx.2.2.2.2.2.2, if_pos rfl, if_pos rfl, ex]
          have hadv := g5.2.1 hx.2.2.1
          obtain ⟨T2, eT2, m2⟩ := s_between hl hE t0 t1 R1 (q := 5) g2 g5 hbt (by omega) (by rw [if_pos hrx]) (by omega) g4 (lowP_m (by omega) hlo) (by rw [List.length_append]; omega) (by omega) (by omega) (by omega) (by omega)
          rw [show st.o + cntU R1 - cntU R1 = st.o by omega] at m2
          have hvn := aV_nx hl g5
          have hnp := nx_p hl g5
          have hon' : (aNx lx st1).o = st.o := g6
          obtain ⟨s2, es2⟩ : ∃ s2, s2 = aNx lx st1 := ⟨_, rfl⟩
          rw [← es2] at m2 hvn hnp hon' hres
          have hgo : mGo (s2.p - st.p) T T2 := g1.tr (mGo.one (k := s2.p - st1.p) (by omega) eT2) (by omega)
          cases e3 : rec.2.2.2.2.2.2 s2 with
          | none => rw [e3] at hres; cases hres
          | some r3 =>
            rw [e3] at hres
            have p3 := hS s2 (x :: y :: P0) (C1 ++ emz R1) T2 r3 e3 (by rw [hon']; exact m2) hvn (by show rk x < 5; omega) (fun x => by cases x) (by rw [hon', List.length_cons]; omega) (by rw [gol, List.length_cons]; omega) (fun _ _ => aA_hd (by omega) (Or.inr (by omega)))
            have gg := hgo
            cases r3 with
            | inr q =>
              cases hres
              obtain ⟨pq, p3⟩ := p3
              exact ⟨by omega, mFl.tr gg p3 (by omega)⟩
            | inl x3 =>
              obtain ⟨L3, st3⟩ := x3
              have hres : some (.inl (L1 ++ L3 ++ [(aCm st1.s, 0)], st3)) = some res := hres
              cases hres
              obtain ⟨R3, C3, T3, k1, k2, k3, k4, k5, k6, k7, k8, k9, k10, -⟩ := p3
              rw [← ex]
              refine ⟨R3 ++ [x], C3, T3, gg.tr k1 (by omega), ?_, ?_, ?_, k5, k6.trans hon', by omega, ?_, ⟨?_, ?_⟩, k10, fun _ => ?_⟩
              · rw [List.append_assoc, List.singleton_append, cnt_a, hcx]
                have e9 : s2.o - cntU [] + cntU R3 = st.o - cntU [] + (cntU R3 + 0) := by rw [hon']; omega
                rw [e9] at k2; exact k2
              · rw [emz_a, ← List.append_assoc, k3, g3, show emz [] = [] from rfl]
                simp [emz, List.append_assoc]
              · intro z hz
                rcases List.mem_append.mp hz with a | a
                · have := k4 z a; omega
                · rw [List.mem_singleton.mp a]; omega
              · rw [List.length_append, List.length_singleton]
                rw [List.length_cons] at k8
                omega
              · rw [List.length_append, List.length_singleton]
                have := k9.1
                omega
              · rw [List.length_append, List.length_singleton]
                have := k9.2
                rw [List.length_cons] at this
                omega
              · rw [List.append_assoc, List.singleton_append, cP_a _ _ k4]
                show (if rk x ≤ 4 then (if rk x = 4 then 1 else 0) else cP (y :: P0)) = 1
                rw [if_pos (by omega), if_pos hrx]
end
