/-! READING: choices, ones, all levels -/
set_option maxRecDepth 100000
section
variable {E0 : zP} {lx : Int → Int × Int × Int × Int} {tx nn kd : Int}
theorem aA_o {x : Int} {r : List Int} (h : oN (x :: r) ≠ 41) : aA (x :: r) = 0 := aA_on h
theorem oN_h {x : Int} {r : List Int} (h : 40 ≤ x) : oN (x :: r) = x := if_pos h
/-- a sign is set that waits -/
theorem s_wait (hl : aLx lx E0 nn) {st : aSt} {P : List Int} {C : aC} {T : zP} {x : Int} (hm : mS E0 tx st P st.o 0 C T) (hv : aV nn st) (hP : P.length < 140) (hs : st.s ≠ 301) (hb : p_X2_beginOne T = p_X2_opened T x) : (st.o = 8 ∧ aOp lx st = .inr (3, st.p) ∧ mFl E0 tx 0 T (3, st.p)) ∨ (st.o ≠ 8 ∧ ∃ s1 T1, aOp lx st = .inl s1 ∧ mGo (s1.p - st.p) T T1 ∧ mS E0 tx s1 (x :: P) s1.o 0 C T1 ∧ aV nn s1 ∧ s1.o = st.o + 1 ∧ st.p + 1 ≤ s1.p) := by
  have ho8 := hv.2.2
  have hadv := hv.2.1 hs
  have hop := k_opened hl hm hv (by omega) (by omega) (by omega) x
  unfold aOp
  by_cases h8 : st.o = 8
  · refine Or.inl ⟨h8, if_pos h8, ?_⟩
    have hb := s_begin hm (hb.trans (hop.1 h8))
    rw [if_neg (by omega)] at hb
    exact mFl.one (Int.le_refl _) hb (mS_p hm) hm.2.1
  · refine Or.inr ⟨h8, ?_⟩
    obtain ⟨T1, eT1, m1⟩ := hop.2 h8
    have hb := s_begin hm (hb.trans eT1)
    rw [if_pos rfl] at hb
    have hvn := aV_nx hl (st := ⟨st.s, st.n, st.p, st.a, st.o + 1⟩) ⟨hv.1, hv.2.1, by show 0 ≤ st.o + 1 ∧ st.o + 1 ≤ 8; omega⟩
    have hnp := nx_p hl hv
    obtain ⟨s1, es1⟩ : ∃ s1, s1 = aNx lx ⟨st.s, st.n, st.p, st.a, st.o + 1⟩ := ⟨_, rfl⟩
    have hso : s1.o = st.o + 1 := by rw [es1]; rfl
    have hsp : st.a ≤ s1.p := by rw [es1]; exact hnp
    refine ⟨s1, T1, by rw [if_neg h8, es1], mGo.one (by omega) hb, ?_, by rw [es1]; exact hvn, hso, by omega⟩
    rw [hso, es1]; exact m1
/-- what is wanted: then, else -/
theorem s_want (hl : aLx lx E0 nn) (hE : E0 0 12 = tx) (t0 : 0 ≤ tx) (t1 : tx ≤ 2043) (hn : nn ≤ 300) {st : aSt} {R P : List Int} {C : aC} {T : zP} {y c x : Int} (hy : 40 ≤ y) (hm : mS E0 tx st (R ++ y :: P) (st.o + cntU R) 1 C T) (hv : aV nn st) (hR : ∀ z ∈ R, 1 ≤ rk z) (hb : bt st.s y (cP (R ++ y :: P)) = -1) (hx : st.s = c → pt c y (cP (R ++ y :: P)) = x) (hx2 : st.s ≠ c → pt st.s y (cP (R ++ y :: P)) = -1) (x0 : 0 < x) (hc : c ≠ 301) (hlen : (R.length : Int) + (y :: P).length ≤ 100) (hC : (C.length : Int) + R.length + (y :: P).length ≤ st.p) :
    (st.s ≠ c ∧ aWt lx c st = .inr (1, st.p) ∧ mFl E0 tx 0 T (1, st.p)) ∨ ∃ s1 T1, aWt lx c st = .inl s1 ∧ mGo (s1.p - st.p) T T1 ∧ mS E0 tx s1 (x :: P) s1.o 0 (C ++ emz R) T1 ∧ aV nn s1 ∧ s1.o = st.o ∧ st.p + 1 ≤ s1.p := by
  have ho8 := hv.2.2
  have hon : oN (R ++ y :: P) = y := by rw [oN_a _ _ hR]; exact oN_h hy
  have hl2 : (R ++ y :: P).length < 149 := by rw [List.length_append]; omega
  have c0 := cnt_0 R
  have hvp := hv.1
  unfold aWt
  by_cases hs : st.s = c
  · refine Or.inr ?_
    have hadv := hv.2.1 (by rw [hs]; exact hc)
    obtain ⟨T1, eT1, m1⟩ := s_part hl hE t0 t1 R hm hv (by rw [hon]; exact hb) (by rw [hon, hs]; exact hx hs) x0 hy hR hl2 (by omega) (by omega) (by omega) (by omega)
    rw [show st.o + cntU R - cntU R = st.o by omega] at m1
    have hnp := nx_p hl hv
    have hvn := aV_nx hl hv
    obtain ⟨s1, es1⟩ : ∃ s1, s1 = aNx lx st := ⟨_, rfl⟩
    have hso : s1.o = st.o := by rw [es1]; rfl
    rw [← es1] at m1 hnp hvn
    exact ⟨s1, T1, by rw [if_pos hs, es1], mGo.one (by omega) eT1, by rw [hso]; exact m1, hvn, hso, by omega⟩
  · refine Or.inl ⟨hs, by rw [if_neg hs], ?_⟩
    have hb := s_none hm hl2 (by rw [hon]; exact hb) (by rw [hon]; exact hx2 hs) (by rw [hon]; omega)
    exact mFl.one (Int.le_refl _) hb (mS_p hm) hm.2.1
theorem mS_o' {st : aSt} {P : List Int} {o o' w : Int} {C : aC} {T : zP} (h : mS E0 tx st P o w C T) (e : o = o') : mS E0 tx st P o' w C T := e ▸ h
set_option maxHeartbeats 1000000 in
theorem sim_choice (hl : aLx lx E0 nn) (hn : nn ≤ 300) (hE : E0 0 12 = tx) (t0 : 0 ≤ tx) (t1 : tx ≤ 2043) (hE14 : E0 0 14 = kd - 200) (hk : kd = 200 ∨ kd = 201) {rec : aTb} (hI : cFn E0 tx nn 1 1 0 102 nxE true rec.2.2.1) (hS : cFn E0 tx nn 5 5 3 2 nxS false rec.2.2.2.2.2.2) : cOne E0 tx nn (fun st => st.s = 213) (aChoice lx rec) := by
  intro st U P C T res hres h213 hm hv hU hlo hcU hP hC _
  have h213 : st.s = 213 := h213
  have ho8 := hv.2.2
  have hlen : (U ++ P).length < 140 := by rw [List.length_append]; omega
  have hbeg : p_X2_beginOne T = p_X2_opened T 41 := by
    rw [k_begin hE14 hk hm (by omega)]
    unfold bBeg
    have hnm : ¬ 0 ≤ aNm st.s := by rw [h213]; decide
    rw [if_neg (by omega), if_neg hnm, if_neg (by omega), if_neg (by omega), if_neg (by omega), if_neg (by omega), if_pos h213]
  have hlp : ((U ++ P).length : Int) = U.length + P.length := by rw [List.length_append]; omega
  have eE : emz [] = [] := rfl
  have ec0 : cntU [] = 0 := rfl
  unfold aChoice at hres
  rcases s_wait hl hm hv hlen (by omega) hbeg with ⟨-, w1, w2⟩ | ⟨-, s1, T1, w1, g1, m1, v1, o1, p1⟩
  · rw [w1] at hres
    cases hres
    exact ⟨⟨Int.le_refl _, by have := hv.1; show st.p ≤ nn; omega⟩, by rw [Int.sub_self]; exact w2⟩
  rw [w1] at hres
  have hres : ((rec.2.2.1 s1).bind fun r => aB r fun x => aB (aWt lx 214 x.2) fun s2 => (rec.2.2.2.2.2.2 s2).bind fun r => aB r fun y => aB (aWt lx 215 y.2) fun s3 => (rec.2.2.2.2.2.2 s3).bind fun r => aB r fun z => aB (aWt lx 216 z.2) fun s4 => some (.inl (x.1 ++ y.1 ++ z.1 ++ [(3, 0)], aSh s4))) = some res := hres
  cases e2 : rec.2.2.1 s1 with
  | none => rw [e2] at hres; cases hres
  | some r2 =>
  rw [e2] at hres
  have q2 := hI s1 (41 :: (U ++ P)) C T1 r2 e2 m1 v1 (by show rk 41 < 1; decide) (fun _ => oN_h (by omega)) (by rw [List.length_cons]; omega) (by rw [List.length_cons]; omega) (fun x => by cases x)
  cases r2 with
  | inr q =>
    cases hres
    exact ⟨by have := q2.1; omega, mFl.tr g1 q2.2 (by have := q2.1; omega)⟩
  | inl x2 =>
  obtain ⟨L2, st2⟩ := x2
  obtain ⟨R2, C2, T2, k1, k2, k3, k4, k5, k6, k7, k8, k9, k10, k11⟩ := q2
  have k11 := k11 rfl
  have k2 := mS_o' (o' := st2.o + cntU R2) k2 (by rw [ec0, k6]; omega)
  have nS2 : nxS st2.s := k10.1.1
  have G2 : mGo (st2.p - st.p) T T2 := g1.tr k1 (by omega)
  have hres : (aB (aWt lx 214 st2) fun s2 => (rec.2.2.2.2.2.2 s2).bind fun r => aB r fun y => aB (aWt lx 215 y.2) fun s3 => (rec.2.2.2.2.2.2 s3).bind fun r => aB r fun z => aB (aWt lx 216 z.2) fun s4 => some (.inl (L2 ++ y.1 ++ z.1 ++ [(3, 0)], aSh s4))) = some res := hres
  rcases s_want hl hE t0 t1 hn (c := 214) (x := 42) (by omega) k2 k5 (fun z hz => k4 z hz) (bt_n nS2 (fun _ => by rw [k11, if_neg (by omega), if_neg k10.1.2.1, if_neg k10.2.1])) (fun _ => by rw [k11]; rfl) (fun h => by unfold pt; rw [if_neg (by omega), if_pos rfl, if_neg h]) (by omega) (by omega) k9.2 (by omega) with ⟨-, w1, w2⟩ | ⟨s3, T3, w1, g3, m3, v3, o3, p3⟩
  · rw [w1] at hres
    cases hres
    exact ⟨⟨by show st.p ≤ st2.p; omega, by show st2.p ≤ nn; have := k5.1; omega⟩, mFl.tr G2 w2 (by show _ ≤ st2.p - st.p; omega)⟩
  rw [w1] at hres
  have G3 : mGo (s3.p - st.p) T T3 := G2.tr g3 (by omega)
  have hem2 : (C2 ++ emz R2).length = C2.length + R2.length := by rw [List.length_append]; unfold emz; rw [List.length_map]
  have hres : ((rec.2.2.2.2.2.2 s3).bind fun r => aB r fun y => aB (aWt lx 215 y.2) fun s3 => (rec.2.2.2.2.2.2 s3).bind fun r => aB r fun z => aB (aWt lx 216 z.2) fun s4 => some (.inl (L2 ++ y.1 ++ z.1 ++ [(3, 0)], aSh s4))) = some res := hres
  cases e4 : rec.2.2.2.2.2.2 s3 with
  | none => rw [e4] at hres; cases hres
  | some r4 =>
  rw [e4] at hres
  rw [List.length_cons] at k8
  have q4 := hS s3 (42 :: (U ++ P)) (C2 ++ emz R2) T3 r4 e4 m3 v3 (by show rk 42 < 5; decide) (fun x => by cases x) (by rw [List.length_cons]; omega) (by rw [List.length_cons, hem2]; omega) (fun _ _ => aA_o (by rw [oN_h (by omega)]; omega))
  cases r4 with
  | inr q =>
    cases hres
    exact ⟨by have := q4.1; omega, mFl.tr G3 q4.2 (by have := q4.1; omega)⟩
  | inl x4 =>
  obtain ⟨L4, st4⟩ := x4
  obtain ⟨R4, C4, T4, j1, j2, j3, j4, j5, j6, j7, j8, j9, j10, -⟩ := q4
  have j2 := mS_o' (o' := st4.o + cntU R4) j2 (by rw [ec0, j6]; omega)
  have G4 : mGo (st4.p - st.p) T T4 := G3.tr j1 (by omega)
  have hres : (aB (aWt lx 215 st4) fun s3 => (rec.2.2.2.2.2.2 s3).bind fun r => aB r fun z => aB (aWt lx 216 z.2) fun s4 => some (.inl (L2 ++ L4 ++ z.1 ++ [(3, 0)], aSh s4))) = some res := hres
  have nb4 : ∀ cc, bt st4.s 42 cc = -1 := fun cc => bt_n j10 (fun x => absurd x (by omega))
  rcases s_want hl hE t0 t1 hn (c := 215) (x := 43) (by omega) j2 j5 (fun z hz => by have := j4 z hz; omega) (nb4 _) (fun _ => by unfold pt; rfl) (fun h => by unfold pt; rw [if_neg (by omega), if_neg (by omega), if_pos rfl, if_neg h]) (by omega) (by omega) j9.2 (by omega) with ⟨-, w1, w2⟩ | ⟨s5, T5, w1, g5, m5, v5, o5, p5⟩
  · rw [w1] at hres
    cases hres
    exact ⟨⟨by show st.p ≤ st4.p; omega, by show st4.p ≤ nn; have := j5.1; omega⟩, mFl.tr G4 w2 (by show _ ≤ st4.p - st.p; omega)⟩
  rw [w1] at hres
  have G5 : mGo (s5.p - st.p) T T5 := G4.tr g5 (by omega)
  have hem4 : (C4 ++ emz R4).length = C4.length + R4.length := by rw [List.length_append]; unfold emz; rw [List.length_map]
  have hres : ((rec.2.2.2.2.2.2 s5).bind fun r => aB r fun z => aB (aWt lx 216 z.2) fun s4 => some (.inl (L2 ++ L4 ++ z.1 ++ [(3, 0)], aSh s4))) = some res := hres
  cases e6 : rec.2.2.2.2.2.2 s5 with
  | none => rw [e6] at hres; cases hres
  | some r6 =>
  rw [e6] at hres
  rw [List.length_cons] at j8
  have q6 := hS s5 (43 :: (U ++ P)) (C4 ++ emz R4) T5 r6 e6 m5 v5 (by show rk 43 < 5; decide) (fun x => by cases x) (by rw [List.length_cons]; omega) (by rw [List.length_cons, hem4]; omega) (fun _ _ => aA_o (by rw [oN_h (by omega)]; omega))
  cases r6 with
  | inr q =>
    cases hres
    exact ⟨by have := q6.1; omega, mFl.tr G5 q6.2 (by have := q6.1; omega)⟩
  | inl x6 =>
  obtain ⟨L6, st6⟩ := x6
  obtain ⟨R6, C6, T6, i1, i2, i3, i4, i5, i6, i7, i8, i9, i10, -⟩ := q6
  have i2 := mS_o' (o' := st6.o + cntU R6) i2 (by rw [ec0, i6]; omega)
  have G6 : mGo (st6.p - st.p) T T6 := G5.tr i1 (by omega)
  have hres : (aB (aWt lx 216 st6) fun s4 => some (.inl (L2 ++ L4 ++ L6 ++ [(3, 0)], aSh s4))) = some res := hres
  have iR : ∀ z ∈ R6, 1 ≤ rk z := fun z hz => by have := i4 z hz; omega
  have hon6 : oN (R6 ++ 43 :: (U ++ P)) = 43 := by rw [oN_a _ _ iR]; exact oN_h (by omega)
  have nb6 : bt st6.s (oN (R6 ++ 43 :: (U ++ P))) (cP (R6 ++ 43 :: (U ++ P))) = -1 := by
    rw [hon6]; exact bt_n i10 (fun x => absurd x (by omega))
  have hl6 : (R6 ++ 43 :: (U ++ P)).length < 149 := by rw [List.length_append]; omega
  rw [List.length_cons] at i8
  have c6 := cnt_0 R6
  have v6 := i5.1
  unfold aWt at hres
  by_cases h216 : st6.s = 216
  · rw [if_pos h216] at hres
    cases hres
    have hadv := i5.2.1 (by omega)
    obtain ⟨T7, e7, m7⟩ := s_shut hl hE t0 t1 R6 U i2 i5 nb6 (by rw [hon6, h216]; rfl) hon6 (by omega) iR hU hlo hl6 (by omega) (by omega) (by omega)
    have hnp := nx_p hl i5
    have hvn := aV_nx hl i5
    obtain ⟨s7, es7⟩ : ∃ s7, s7 = aNx lx st6 := ⟨_, rfl⟩
    have hso : s7.o = st6.o := by rw [es7]; rfl
    rw [← es7] at m7 hnp hvn
    rw [← es7]
    have code : C6 ++ emz R6 ++ (if (43 : Int) = 43 then [(3, 0)] else []) ++ emz U = C ++ (L2 ++ L4 ++ L6 ++ [(3, 0)]) ++ emz U := by
      rw [if_pos rfl, i3, j3, k3, eE]
      simp [List.append_assoc]
    rw [code] at m7
    refine ⟨[], _, T7, G6.tr (mGo.one (k := s7.p - st6.p) (by omega) e7) (by show _ ≤ s7.p - st.p; omega), ?_, by rw [eE, List.append_nil], fun x hx => absurd hx List.not_mem_nil, ⟨hvn.1, hvn.2.1, ?_⟩, ?_, ?_, ?_, ⟨?_, ?_⟩, trivial, fun x => by cases x⟩
    · refine mS_o' m7 ?_
      rw [ec0]; omega
    · show 0 ≤ s7.o - 1 ∧ s7.o - 1 ≤ 8
      omega
    · show s7.o - 1 = st.o
      omega
    · show st.p < s7.p
      omega
    · show _ ≤ s7.p
      have e8 : (C ++ (L2 ++ L4 ++ L6 ++ [(3, 0)]) ++ emz U).length = C6.length + R6.length + 1 + U.length := by
        rw [← code, if_pos rfl]
        simp only [List.length_append, emz, List.length_map, List.length_singleton]
      rw [e8, List.length_nil]
      omega
    · rw [List.length_nil]; omega
    · rw [List.length_nil]; omega
  · rw [if_neg h216] at hres
    cases hres
    have hb := s_none i2 hl6 nb6 (by rw [hon6]; unfold pt; rw [if_neg (by omega), if_neg (by omega), if_neg (by omega), if_pos rfl, if_neg h216]) (by rw [hon6]; omega)
    exact ⟨⟨by show st.p ≤ st6.p; omega, by show st6.p ≤ nn; have := i5.1; omega⟩, mFl.tr G6 (mFl.one (k := 0) (Int.le_refl _) hb (mS_p i2) i2.2.1) (by show _ ≤ st6.p - st.p; omega)⟩
theorem aNm_s {s : Int} (h : 0 ≤ aNm s) : s ≠ 300 ∧ s ≠ 301 ∧ s ≠ 213 ∧ s ≠ 40 ∧ s ≠ 45 ∧ s ≠ 219 := by
  refine ⟨?_, ?_, ?_, ?_, ?_, ?_⟩ <;> (rintro rfl; exact absurd h (by decide))
theorem aNm_m {s : Int} : aNm s = -1 ∨ 0 ≤ aNm s := by
  unfold aNm
  repeat' split
  all_goals omega
/-- what is whole by itself: a number, a name -/
theorem sim_leaf (hl : aLx lx E0 nn) (hn : nn ≤ 300) (hE : E0 0 12 = tx) (t0 : 0 ≤ tx) (t1 : tx ≤ 2043) {st : aSt} {U P : List Int} {C : aC} {T : zP} (hm : mS E0 tx st (U ++ P) st.o 0 C T) (hv : aV nn st) (hU : ∀ x ∈ U, 7 ≤ rk x) (hlo : lowP 7 P) (hcU : cntU U ≤ st.o) (hP : (U.length : Int) + P.length ≤ 6 * st.o + 5) (hC : (C.length : Int) + U.length + P.length ≤ st.p) (hs : st.s ≠ 301) {a b : Int} (hb : p_X2_beginOne T = bTail T a b) : cPost E0 tx nn 8 0 (fun _ => True) false st U P C T (.inl ([(a, b)], aNx lx st)) := by
  have ho8 := hv.2.2
  have hvp := hv.1
  have hadv := hv.2.1 hs
  have c0 := cnt_0 U
  obtain ⟨T1, e1, m1⟩ := s_tail hl hE t0 t1 U hm hv hU hlo (by rw [List.length_append]; omega) (by omega) (by omega) (by omega) hcU a b
  have hb1 := s_begin hm (hb.trans e1)
  rw [if_pos rfl] at hb1
  have hnp := nx_p hl hv
  have hvn := aV_nx hl hv
  obtain ⟨s1, es1⟩ : ∃ s1, s1 = aNx lx st := ⟨_, rfl⟩
  have hso : s1.o = st.o := by rw [es1]; rfl
  rw [← es1] at m1 hnp hvn ⊢
  refine ⟨[], _, T1, mGo.one (by omega) hb1, mS_o' m1 (by show st.o - cntU U = st.o - cntU U + 0; omega), by rw [show emz [] = [] from rfl, List.append_nil], fun x hx => absurd hx List.not_mem_nil, hvn, hso, by omega, ?_, ⟨?_, ?_⟩, trivial, fun x => by cases x⟩
  · simp only [List.length_append, emz, List.length_map, List.length_singleton, List.length_nil]
    omega
  · rw [List.length_nil]; omega
  · rw [List.length_nil]; omega
set_option maxHeartbeats 1000000 in
theorem sim_one (hl : aLx lx E0 nn) (hn : nn ≤ 300) (hE : E0 0 12 = tx) (t0 : 0 ≤ tx) (t1 : tx ≤ 2043) (hE14 : E0 0 14 = kd - 200) (hk : kd = 200 ∨ kd = 201) {rec : aTb} (hH : cOne E0 tx nn (fun st => st.s = 213) rec.2.2.2.1) (hO : cOne E0 tx nn (fun _ => True) rec.2.2.2.2.1) (hS : cFn E0 tx nn 5 5 3 2 nxS false rec.2.2.2.2.2.2) : cOne E0 tx nn (fun _ => True) (aOne lx kd rec) := by
  intro st U P C T res hres _ hm hv hU hlo hcU hP hC h219
  have ho8 := hv.2.2
  have hvp := hv.1
  have hlen : (U ++ P).length < 140 := by rw [List.length_append]; omega
  have hlp : ((U ++ P).length : Int) = U.length + P.length := by rw [List.length_append]; omega
  have eE : emz [] = [] := rfl
  have ec0 : cntU [] = 0 := rfl
  have c0 := cnt_0 U
  have beg := k_begin hE14 hk hm (by omega)
  have bad : ∀ f : Int, p_X2_beginOne T = some (f, T) → f ≠ 0 → res = .inr (f, st.p) → cPost E0 tx nn 8 0 (fun _ => True) false st U P C T res := fun f hb hf e => by
    subst e
    have hb := s_begin hm hb
    rw [if_neg hf] at hb
    exact ⟨⟨Int.le_refl _, by show st.p ≤ nn; omega⟩, mFl.one (by omega) hb (mS_p hm) hm.2.1⟩
  unfold aOne at hres
  by_cases h300 : st.s = 300
  · rw [if_pos h300] at hres
    have hnum := hm.1.2.2.2.2.1 h300
    unfold aNu at hres
    rw [if_pos h300] at hres
    unfold bBeg at beg
    rw [if_pos h300] at beg
    by_cases hb : st.n < 0 ∨ 9999 < st.n
    · rw [if_pos hb] at hres
      cases hres
      rw [if_neg (by omega)] at beg
      exact bad 2 beg (by omega) rfl
    · rw [if_neg hb] at hres
      have hres : some (.inl ([(0, st.n)], aNx lx st)) = some res := hres
      cases hres
      have e10 : T 0 10 = st.n := by omega
      rw [if_pos (by omega), e10] at beg
      exact sim_leaf hl hn hE t0 t1 hm hv hU hlo hcU hP hC (by omega) beg
  rw [if_neg h300] at hres
  by_cases h213 : st.s = 213
  · rw [if_pos h213] at hres
    exact hH st U P C T res hres h213 hm hv hU hlo hcU hP hC h219
  rw [if_neg h213] at hres
  rcases aNm_m (s := st.s) with hnm | hnm
  · rw [if_pos hnm] at hres
    unfold bBeg at beg
    rw [if_neg h300, if_neg (by omega)] at beg
    by_cases h40 : st.s = 40
    · rw [if_pos h40] at hres
      rw [if_pos h40] at beg
      rcases s_wait hl hm hv hlen (by omega) beg with ⟨-, w1, w2⟩ | ⟨-, s1, T1, w1, g1, m1, v1, o1, p1⟩
      · rw [w1] at hres
        cases hres
        exact ⟨⟨Int.le_refl _, by have := hv.1; show st.p ≤ nn; omega⟩, by rw [Int.sub_self]; exact w2⟩
      rw [w1] at hres
      have hres : ((rec.2.2.2.2.2.2 s1).bind fun r => aB r fun x => aB (aWt lx 41 x.2) fun s3 => some (.inl (x.1, aSh s3))) = some res := hres
      cases e2 : rec.2.2.2.2.2.2 s1 with
      | none => rw [e2] at hres; cases hres
      | some r2 =>
      rw [e2] at hres
      have q2 := hS s1 (40 :: (U ++ P)) C T1 r2 e2 m1 v1 (by show rk 40 < 5; decide) (fun x => by cases x) (by rw [List.length_cons]; omega) (by rw [List.length_cons]; omega) (fun _ _ => aA_o (by rw [oN_h (by omega)]; omega))
      cases r2 with
      | inr q =>
        cases hres
        exact ⟨by have := q2.1; omega, mFl.tr g1 q2.2 (by have := q2.1; omega)⟩
      | inl x2 =>
      obtain ⟨L6, st6⟩ := x2
      obtain ⟨R6, C6, T6, i1, i2, i3, i4, i5, i6, i7, i8, i9, i10, -⟩ := q2
      have i2 := mS_o' (o' := st6.o + cntU R6) i2 (by rw [ec0, i6]; omega)
      have G6 : mGo (st6.p - st.p) T T6 := g1.tr i1 (by omega)
      have hres : (aB (aWt lx 41 st6) fun s3 => some (.inl (L6, aSh s3))) = some res := hres
      have iR : ∀ z ∈ R6, 1 ≤ rk z := fun z hz => by have := i4 z hz; omega
      have hon6 : oN (R6 ++ 40 :: (U ++ P)) = 40 := by rw [oN_a _ _ iR]; exact oN_h (by omega)
      have nb6 : bt st6.s (oN (R6 ++ 40 :: (U ++ P))) (cP (R6 ++ 40 :: (U ++ P))) = -1 := by
        rw [hon6]; exact bt_n i10 (fun x => absurd x (by omega))
      have hl6 : (R6 ++ 40 :: (U ++ P)).length < 149 := by rw [List.length_append]; omega
      rw [List.length_cons] at i8
      have c6 := cnt_0 R6
      have v6 := i5.1
      unfold aWt at hres
      by_cases h41 : st6.s = 41
      · rw [if_pos h41] at hres
        cases hres
        have hadv := i5.2.1 (by omega)
        obtain ⟨T7, e7, m7⟩ := s_shut hl hE t0 t1 R6 U i2 i5 nb6 (by rw [hon6, h41]; rfl) hon6 (by omega) iR hU hlo hl6 (by omega) (by omega) (by omega)
        have hnp := nx_p hl i5
        have hvn := aV_nx hl i5
        obtain ⟨s7, es7⟩ : ∃ s7, s7 = aNx lx st6 := ⟨_, rfl⟩
        have hso : s7.o = st6.o := by rw [es7]; rfl
        rw [← es7] at m7 hnp hvn
        rw [← es7]
        have code : C6 ++ emz R6 ++ (if (40 : Int) = 43 then [(3, 0)] else []) ++ emz U = C ++ L6 ++ emz U := by
          rw [if_neg (by omega), i3, eE, List.append_nil, List.append_nil]
        rw [code] at m7
        refine ⟨[], _, T7, G6.tr (mGo.one (k := s7.p - st6.p) (by omega) e7) (by show _ ≤ s7.p - st.p; omega), ?_, by rw [eE, List.append_nil], fun x hx => absurd hx List.not_mem_nil, ⟨hvn.1, hvn.2.1, ?_⟩, ?_, ?_, ?_, ⟨?_, ?_⟩, trivial, fun x => by cases x⟩
        · refine mS_o' m7 ?_
          rw [ec0]; omega
        · show 0 ≤ s7.o - 1 ∧ s7.o - 1 ≤ 8
          omega
        · show s7.o - 1 = st.o
          omega
        · show st.p < s7.p
          omega
        · show _ ≤ s7.p
          have e8 : (C ++ L6 ++ emz U).length = C6.length + R6.length + U.length := by
            rw [← code, if_neg (by omega)]
            simp only [List.length_append, emz, List.length_map, List.length_nil]
            omega
          rw [e8, List.length_nil]
          omega
        · rw [List.length_nil]; omega
        · rw [List.length_nil]; omega
      · rw [if_neg h41] at hres
        cases hres
        have hb := s_none i2 hl6 nb6 (by rw [hon6]; unfold pt; rw [if_pos rfl, if_neg h41]) (by rw [hon6]; omega)
        exact ⟨⟨by show st.p ≤ st6.p; omega, by show st6.p ≤ nn; have := i5.1; omega⟩, mFl.tr G6 (mFl.one (k := 0) (Int.le_refl _) hb (mS_p i2) i2.2.1) (by show _ ≤ st6.p - st.p; omega)⟩
    rw [if_neg h40] at hres beg
    by_cases hu : st.s = 45 ∨ st.s = 211 ∨ st.s = 212
    · rw [if_pos hu] at hres
      have hun : (aUn st.s = 2 ∨ aUn st.s = 4 ∨ aUn st.s = 5) ∧ p_X2_beginOne T = p_X2_opened T (aUn st.s) := by
        rcases hu with h | h | h
        · rw [if_pos h] at beg
          rw [h]; exact ⟨by decide, beg⟩
        · rw [if_neg (by omega), if_pos h] at beg
          rw [h]; exact ⟨by decide, beg⟩
        · rw [if_neg (by omega), if_neg (by omega), if_pos h] at beg
          rw [h]; exact ⟨by decide, beg⟩
      obtain ⟨hun, beg⟩ := hun
      have hrk : rk (aUn st.s) = 7 := by
        rcases hun with h | h | h <;> rw [h] <;> decide
      have hcnt : cntU (aUn st.s :: U) = 1 + cntU U := by
        show (if rk (aUn st.s) = 7 ∨ aUn st.s = 20 then (1 : Int) else 0) + cntU U = _
        rw [if_pos (Or.inl hrk)]
      rcases s_wait hl hm hv hlen (by omega) beg with ⟨-, w1, w2⟩ | ⟨-, s1, T1, w1, g1, m1, v1, o1, p1⟩
      · rw [w1] at hres
        cases hres
        exact ⟨⟨Int.le_refl _, by have := hv.1; show st.p ≤ nn; omega⟩, by rw [Int.sub_self]; exact w2⟩
      rw [w1] at hres
      have hres : ((rec.2.2.2.2.1 s1).bind fun r => aB r fun x => some (.inl (x.1 ++ [(aUn st.s, 0)], aSh x.2))) = some res := hres
      cases e2 : rec.2.2.2.2.1 s1 with
      | none => rw [e2] at hres; cases hres
      | some r2 =>
      rw [e2] at hres
      have q2 := hO s1 (aUn st.s :: U) P C T1 r2 e2 trivial m1 v1 (fun x hx => by
        rcases List.mem_cons.mp hx with h | h
        · rw [h, hrk]; omega
        · exact hU x h) hlo (by rw [hcnt]; omega) (by rw [List.length_cons]; omega) (by rw [List.length_cons]; omega) (fun _ => aA_hd (by omega) (Or.inr (by omega)))
      cases r2 with
      | inr q =>
        cases hres
        exact ⟨by have := q2.1; omega, mFl.tr g1 q2.2 (by have := q2.1; omega)⟩
      | inl x2 =>
      obtain ⟨L6, st6⟩ := x2
      obtain ⟨R6, C6, T6, i1, i2, i3, i4, i5, i6, i7, i8, i9, i10, -⟩ := q2
      have hres : some (.inl (L6 ++ [(aUn st.s, 0)], aSh st6)) = some res := hres
      cases hres
      refine ⟨R6, C6, T6, g1.tr i1 (by show _ ≤ st6.p - st.p; omega), ?_, ?_, i4, ⟨i5.1, i5.2.1, ?_⟩, ?_, ?_, i8, i9, trivial, fun x => by cases x⟩
      · refine mS_o' i2 ?_
        rw [hcnt]; omega
      · rw [i3]
        simp [emz, List.append_assoc]
      · show 0 ≤ st6.o - 1 ∧ st6.o - 1 ≤ 8
        omega
      · show st6.o - 1 = st.o
        omega
      · show st.p < st6.p
        omega
    · rw [if_neg hu] at hres
      cases hres
      rw [if_neg (by omega), if_neg (by omega), if_neg (by omega), if_neg h213] at beg
      refine bad 1 ?_ (by omega) rfl
      by_cases h9 : st.s = 219
      · rw [if_pos h9, if_pos (h219 h9)] at beg; exact beg
      · rw [if_neg h9] at beg; exact beg
  · rw [if_neg (by omega)] at hres
    have hns := aNm_s hnm
    unfold bBeg at beg
    rw [if_neg h300, if_pos hnm] at beg
    by_cases hmy : aMy kd (aNm st.s) = true
    · rw [if_pos hmy] at hres beg
      cases hres
      exact sim_leaf hl hn hE t0 t1 hm hv hU hlo hcU hP hC hns.2.1 beg
    · rw [if_neg hmy] at hres beg
      cases hres
      exact bad 5 beg (by omega) rfl
theorem cOne_f {f : aFn} (h : cOne E0 tx nn (fun _ => True) f) : cFn E0 tx nn 7 8 5 0 (fun _ => True) false f := by
  intro st P C T res hres hm hv hlo _ hP hC h219
  exact h st [] P C T res hres trivial hm hv (fun x hx => absurd hx List.not_mem_nil) hlo (by show (0 : Int) ≤ st.o; exact hv.2.2.1) (by rw [List.length_nil]; omega) (by rw [List.length_nil]; omega) (h219 rfl)
/-- all levels -/
theorem sim_all (hl : aLx lx E0 nn) (hn : nn ≤ 300) (hE : E0 0 12 = tx) (t0 : 0 ≤ tx) (t1 : tx ≤ 2043) (hE14 : E0 0 14 = kd - 200) (hk : kd = 200 ∨ kd = 201) : ∀ d : Nat, cFn E0 tx nn 4 3 2 100 nxS true (aTk lx kd d).1 ∧ cFn E0 tx nn 2 2 1 101 nxB true (aTk lx kd d).2.1 ∧ cFn E0 tx nn 1 1 0 102 nxE true (aTk lx kd d).2.2.1 ∧ cOne E0 tx nn (fun st => st.s = 213) (aTk lx kd d).2.2.2.1 ∧ cOne E0 tx nn (fun _ => True) (aTk lx kd d).2.2.2.2.1 ∧ cFn E0 tx nn 6 6 4 1 nxP false (aTk lx kd d).2.2.2.2.2.1 ∧ cFn E0 tx nn 5 5 3 2 nxS false (aTk lx kd d).2.2.2.2.2.2
  | 0 => by
    refine ⟨?_, ?_, ?_, ?_, ?_, ?_, ?_⟩
    · intro st P C T res h; cases h
    · intro st P C T res h; cases h
    · intro st P C T res h; cases h
    · intro st U P C T res h; cases h
    · intro st U P C T res h; cases h
    · intro st P C T res h; cases h
    · intro st P C T res h; cases h
  | d + 1 => by
    obtain ⟨i1, i2, i3, i4, i5, i6, i7⟩ := sim_all hl hn hE t0 t1 hE14 hk d
    refine ⟨sim_ask hl hn hE t0 t1 hE14 hk i1 i7, ?_, ?_, sim_choice hl hn hE t0 t1 hE14 hk i3 i7, sim_one hl hn hE t0 t1 hE14 hk i4 i5 i7, ?_, ?_⟩
    · exact sim_chain hl hn hE t0 t1 (r := 2) ⟨by decide, by decide⟩ (by omega) (by omega) ⟨by decide, by decide⟩ (by omega) (by omega) (by omega) (by omega) (by omega) (by omega) (by omega) (fun h => by cases h) (fun on cc h => by
        obtain ⟨h1, h2⟩ := h rfl
        subst h1 h2
        exact ⟨rfl, rfl⟩) i1
    · exact sim_chain hl hn hE t0 t1 (r := 1) ⟨by decide, by decide⟩ (by omega) (by omega) ⟨by decide, by decide⟩ (by omega) (by omega) (by omega) (by omega) (by omega) (by omega) (by omega) (fun h => by cases h) (fun on cc h => by
        obtain ⟨h1, h2⟩ := h rfl
        subst h1 h2
        exact ⟨rfl, rfl⟩) i2
    · exact sim_chain hl hn hE t0 t1 (r := 6) ⟨by decide, by decide⟩ (by omega) (by omega) ⟨by decide, by decide⟩ (by omega) (by omega) (by omega) (by omega) (by omega) (by omega) (by omega) (fun _ => by omega) (fun on cc _ => ⟨rfl, rfl⟩) (cOne_f i5)
    · exact sim_chain hl hn hE t0 t1 (r := 5) ⟨by decide, by decide⟩ (by omega) (by omega) ⟨by decide, by decide⟩ (by omega) (by omega) (by omega) (by omega) (by omega) (by omega) (by omega) (fun _ => by omega) (fun on cc _ => ⟨rfl, rfl⟩) i6
end
