/-! methods (printed by gen/run2.py) -/
set_option maxRecDepth 100000
/-! QuiverKinModel.digitOf -/
def f_X2_digitOf (a0 : Int32) (a1 : Int32) : Option (Int32) :=
if a1 = 0 then (some ((a0 / (25 : Int32))))
else (if a1 = (1 : Int32) then (some ((zrem (a0 / (5 : Int32)) (5 : Int32))))
else (some ((zrem a0 (5 : Int32)))))
theorem hy_X2_digitOf : zHy yX2_digitOf 2 := ⟨by decide, by decide, by decide +kernel⟩
set_option maxHeartbeats 4000000 in
theorem ok_X2_digitOf (l : Launch) (g : zGd) (m : zMm) (a0 : Int32) (a1 : Int32) (z0 : Int32) (h : f_X2_digitOf a0 a1 = some z0) : zCT l yX2_digitOf cX2_digitOf 2 (some .int) 1 20 g m [.int a0, .int a1] (some (.int z0)) g m := by
  refine zCT.of (own := "QuiverKinModel") (mn := "digitOf") (by decide +kernel) rfl rfl (zla_i (zla_i zla_0)) (zls_i (zls_i zls_0)) (by decide) (fun X hxl hxg hxf hxt hxr hxn => ?_)
  have Kret : ∀ (y0 : Int32), y0 = z0 → zRe X g m (some (.int y0)) := by
    intro y0 e; cases e; exact ⟨hxf, hxr, hxn⟩
  subst hxl
  show zG X cX2_digitOf 2 "QuiverKinModel" "digitOf" 1 20 0 [(0, .int a0), (1, .int a1)] [] g m
  unfold f_X2_digitOf at h
  refine g_iload_n dX2_digitOf_0 1 rfl ?_
  refine g_if_ne 11 dX2_digitOf_1 (by decide) (fun c => ?_) (fun c => ?_)
  · have h := zite_n h c
    refine g_iload_n dX2_digitOf_11 1 rfl ?_
    refine g_iconst (v := (1 : Int32)) dX2_digitOf_12 (by decide) ?_
    refine g_icmp_ne 24 dX2_digitOf_13 (by decide) (fun c => ?_) (fun c => ?_)
    · have h := zite_n h c
      refine g_iload_n dX2_digitOf_24 0 rfl ?_
      refine g_iconst (v := (5 : Int32)) dX2_digitOf_25 (by decide) ?_
      refine g_iremC dX2_digitOf_26 (by decide) ?_
      refine g_iret dX2_digitOf_27 hxt ?_
      have e := Option.some.inj h
      exact Kret _ e
    · have h := zite_p h c
      refine g_iload_n dX2_digitOf_16 0 rfl ?_
      refine g_iconst (v := (5 : Int32)) dX2_digitOf_17 (by decide) ?_
      refine g_idivC dX2_digitOf_18 (by decide) ?_
      refine g_iconst (v := (5 : Int32)) dX2_digitOf_19 (by decide) ?_
      refine g_iremC dX2_digitOf_20 (by decide) ?_
      refine g_goto 27 dX2_digitOf_21 (by decide) ?_
      refine g_iret dX2_digitOf_27 hxt ?_
      have e := Option.some.inj h
      exact Kret _ e
  · have h := zite_p h c
    refine g_iload_n dX2_digitOf_4 0 rfl ?_
    refine g_bipush (v := (25 : Int32)) dX2_digitOf_5 (by decide) ?_
    refine g_idivC dX2_digitOf_7 (by decide) ?_
    refine g_goto 27 dX2_digitOf_8 (by decide) ?_
    refine g_iret dX2_digitOf_27 hxt ?_
    have e := Option.some.inj h
    exact Kret _ e
/-! QuiverKinModel.countOf -/
def b_X2_countOf_4 (a0 : Int32) (a1 : Int32) : Int32 × Int32 → Option ((Int32) ⊕ (Int32 × Int32)) := fun (v4, v5) =>
if (3 : Int32) ≤ v5 then (some (.inl v4))
else ((f_X2_digitOf a0 v5).bind fun v6 =>
if v6 = a1 then (zlt (v4 + (1 : Int32)) fun v9 =>
zlt (v5 + (1 : Int32)) fun v10 =>
some (.inr (v9, v10)))
else (zlt (v4 + (0 : Int32)) fun v7 =>
zlt (v5 + (1 : Int32)) fun v8 =>
some (.inr (v7, v8))))
def f_X2_countOf (a0 : Int32) (a1 : Int32) : Option (Int32) :=
(zLoop (b_X2_countOf_4 a0 a1) zFuel ((0 : Int32), (0 : Int32))).bind fun v2 =>
some (v2)
theorem hy_X2_countOf : zHy yX2_countOf 2 := ⟨by decide, by decide, by decide +kernel⟩
set_option maxHeartbeats 4000000 in
theorem ok_X2_countOf (l : Launch) (g : zGd) (m : zMm) (a0 : Int32) (a1 : Int32) (z0 : Int32) (h : f_X2_countOf a0 a1 = some z0) : zCT l yX2_countOf cX2_countOf 4 (some .int) 2 41 g m [.int a0, .int a1] (some (.int z0)) g m := by
  refine zCT.of (own := "QuiverKinModel") (mn := "countOf") (by decide +kernel) rfl rfl (zla_i (zla_i zla_0)) (zls_i (zls_i zls_0)) (by decide) (fun X hxl hxg hxf hxt hxr hxn => ?_)
  have Kret : ∀ (y0 : Int32), y0 = z0 → zRe X g m (some (.int y0)) := by
    intro y0 e; cases e; exact ⟨hxf, hxr, hxn⟩
  subst hxl
  show zG X cX2_countOf 4 "QuiverKinModel" "countOf" 2 41 0 [(0, .int a0), (1, .int a1)] [] g m
  unfold f_X2_countOf at h
  refine g_iconst (v := (0 : Int32)) dX2_countOf_0 (by decide) ?_
  refine g_istore_n [(2, .int (0 : Int32)), (0, .int a0), (1, .int a1)] dX2_countOf_1 (by decide) (zf_i (zf_i zf_0)) rfl ?_
  refine g_iconst (v := (0 : Int32)) dX2_countOf_2 (by decide) ?_
  refine g_istore_n [(3, .int (0 : Int32)), (2, .int (0 : Int32)), (0, .int a0), (1, .int a1)] dX2_countOf_3 (by decide) (zf_i (zf_i (zf_i zf_0))) rfl ?_
  obtain ⟨o1, h1, h2⟩ := zB_e h
  have K1 : ∀ (v2 : Int32), o1 = v2 → zG X cX2_countOf 4 "QuiverKinModel" "countOf" 2 41 32 [(2, .int v2)] [] g m := by
    intro v2 e
    rw [e] at h2
    have h := h2
    refine g_iload_n dX2_countOf_32 0 rfl ?_
    refine g_iret dX2_countOf_33 hxt ?_
    have e := Option.some.inj h
    exact Kret _ e
  refine zG.sub [2, 3, 1, 0] rfl ?_
  refine zLoop_ok (Φ := (fun (q : Int32 × Int32) => match q with | (v4, v5) => zG X cX2_countOf 4 "QuiverKinModel" "countOf" 2 41 4 [(0, .int a0), (1, .int a1), (2, .int v4), (3, .int v5)] [] g m)) o1 ?_ zFuel _ h1
  rintro ⟨v4, v5⟩ x3 h hl3 hr3
  unfold b_X2_countOf_4 at h
  have K3 : ∀ (v4 : Int32) (v5 : Int32), x3 = .inr (v4, v5) → zG X cX2_countOf 4 "QuiverKinModel" "countOf" 2 41 4 [(0, .int a0), (1, .int a1), (2, .int v4), (3, .int v5)] [] g m := by
    intro v4 v5 e
    exact hr3 _ e
  show zG X cX2_countOf 4 "QuiverKinModel" "countOf" 2 41 4 [(0, .int a0), (1, .int a1), (2, .int v4), (3, .int v5)] [] g m
  refine g_iload_n dX2_countOf_4 3 rfl ?_
  refine g_iconst (v := (3 : Int32)) dX2_countOf_5 (by decide) ?_
  refine g_icmp_ge 32 dX2_countOf_6 (by decide) (fun c => ?_) (fun c => ?_)
  · have h := zite_p h c
    refine zG.sub [2] rfl ?_
    have e := Option.some.inj h
    have e := hl3 _ e.symm
    exact K1 _ e.symm
  · have h := zite_n h c
    refine g_iload_n dX2_countOf_9 2 rfl ?_
    refine g_iload_n dX2_countOf_10 0 rfl ?_
    refine g_iload_n dX2_countOf_11 3 rfl ?_
    refine g_cSRv (rv := fun x : Int32 => Value.int x) [.int a0, .int v5] (fun x0 e0 => ok_X2_digitOf (xl X) g m a0 v5 x0 e0) (lw_S q1976 q1977 q126 q1978) hy_X2_digitOf rfl ⟨by decide, by decide⟩ rfl (zc_i zc_0) (by decide) dX2_countOf_12 h (fun v6 h => ?_)
    refine g_iload_n dX2_countOf_15 1 rfl ?_
    refine g_icmp_ne 23 dX2_countOf_16 (by decide) (fun c => ?_) (fun c => ?_)
    · have h := zite_n h c
      refine g_iconst (v := (0 : Int32)) dX2_countOf_23 (by decide) ?_
      refine g_iadd dX2_countOf_24 ?_
      refine g_leti h (fun v7 h => ?_)
      refine g_istore_n [(2, .int v7), (0, .int a0), (1, .int a1), (3, .int v5)] dX2_countOf_25 (by decide) (zf_i (zf_i (zf_i (zf_i zf_0)))) rfl ?_
      refine g_iinc (v := (1 : Int32)) [(2, .int v7), (0, .int a0), (1, .int a1)] dX2_countOf_26 3 rfl (by decide) (by decide) (zf_i (zf_i (zf_i (zf_i zf_0)))) rfl h (fun v8 h => ?_)
      refine g_goto 4 dX2_countOf_29 (by decide) ?_
      refine zG.sub [2, 3, 1, 0] rfl ?_
      have e := Option.some.inj h
      exact K3 _ _ e.symm
    · have h := zite_p h c
      refine g_iconst (v := (1 : Int32)) dX2_countOf_19 (by decide) ?_
      refine g_goto 24 dX2_countOf_20 (by decide) ?_
      refine g_iadd dX2_countOf_24 ?_
      refine g_leti h (fun v9 h => ?_)
      refine g_istore_n [(2, .int v9), (0, .int a0), (1, .int a1), (3, .int v5)] dX2_countOf_25 (by decide) (zf_i (zf_i (zf_i (zf_i zf_0)))) rfl ?_
      refine g_iinc (v := (1 : Int32)) [(2, .int v9), (0, .int a0), (1, .int a1)] dX2_countOf_26 3 rfl (by decide) (by decide) (zf_i (zf_i (zf_i (zf_i zf_0)))) rfl h (fun v10 h => ?_)
      refine g_goto 4 dX2_countOf_29 (by decide) ?_
      refine zG.sub [2, 3, 1, 0] rfl ?_
      have e := Option.some.inj h
      exact K3 _ _ e.symm
/-! QuiverKinModel.answerOf -/
def b_X2_answerOf_7 (a0 : Int32) (a1 : Int32) : Int32 × Int32 → Option ((Int32) ⊕ (Int32 × Int32)) := fun (v4, v5) =>
if (3 : Int32) ≤ v5 then (some (.inl v4))
else ((f_X2_digitOf a0 v5).bind fun v6 =>
(f_X2_digitOf a1 v5).bind fun v7 =>
if v6 = v7 then (zlt (v4 + (1 : Int32)) fun v10 =>
zlt (v5 + (1 : Int32)) fun v11 =>
some (.inr (v10, v11)))
else (zlt (v4 + (0 : Int32)) fun v8 =>
zlt (v5 + (1 : Int32)) fun v9 =>
some (.inr (v8, v9))))
def b_X2_answerOf_45 (a0 : Int32) (a1 : Int32) : Int32 × Int32 → Option ((Int32) ⊕ (Int32 × Int32)) := fun (v15, v16) =>
if (5 : Int32) ≤ v16 then (some (.inl v15))
else ((f_X2_countOf a0 v16).bind fun v17 =>
(f_X2_countOf a1 v16).bind fun v18 =>
if v18 ≤ v17 then ((f_X2_countOf a1 v16).bind fun v19 =>
zlt (v15 + v19) fun v20 =>
zlt (v16 + (1 : Int32)) fun v21 =>
some (.inr (v20, v21)))
else ((f_X2_countOf a0 v16).bind fun v22 =>
zlt (v15 + v22) fun v23 =>
zlt (v16 + (1 : Int32)) fun v24 =>
some (.inr (v23, v24))))
def f_X2_answerOf (a0 : Int32) (a1 : Int32) : Option (Int32) :=
(zLoop (b_X2_answerOf_7 a0 a1) zFuel ((0 : Int32), (0 : Int32))).bind fun v2 =>
(zLoop (b_X2_answerOf_45 a0 a1) zFuel ((0 : Int32), (0 : Int32))).bind fun v13 =>
some (((((10 : Int32) * v2) + v13) - v2))
theorem hy_X2_answerOf : zHy yX2_answerOf 2 := ⟨by decide, by decide, by decide +kernel⟩
set_option maxHeartbeats 4000000 in
theorem ok_X2_answerOf (l : Launch) (g : zGd) (m : zMm) (a0 : Int32) (a1 : Int32) (z0 : Int32) (h : f_X2_answerOf a0 a1 = some z0) : zCT l yX2_answerOf cX2_answerOf 5 (some .int) 3 64 g m [.int a0, .int a1] (some (.int z0)) g m := by
  refine zCT.of (own := "QuiverKinModel") (mn := "answerOf") (by decide +kernel) rfl rfl (zla_i (zla_i zla_0)) (zls_i (zls_i zls_0)) (by decide) (fun X hxl hxg hxf hxt hxr hxn => ?_)
  have Kret : ∀ (y0 : Int32), y0 = z0 → zRe X g m (some (.int y0)) := by
    intro y0 e; cases e; exact ⟨hxf, hxr, hxn⟩
  subst hxl
  show zG X cX2_answerOf 5 "QuiverKinModel" "answerOf" 3 64 0 [(0, .int a0), (1, .int a1)] [] g m
  unfold f_X2_answerOf at h
  refine g_iconst (v := (0 : Int32)) dX2_answerOf_0 (by decide) ?_
  refine g_istore_n [(2, .int (0 : Int32)), (0, .int a0), (1, .int a1)] dX2_answerOf_1 (by decide) (zf_i (zf_i zf_0)) rfl ?_
  refine g_iconst (v := (0 : Int32)) dX2_answerOf_2 (by decide) ?_
  refine g_istore_n [(3, .int (0 : Int32)), (2, .int (0 : Int32)), (0, .int a0), (1, .int a1)] dX2_answerOf_3 (by decide) (zf_i (zf_i (zf_i zf_0))) rfl ?_
  refine g_iconst (v := (0 : Int32)) dX2_answerOf_4 (by decide) ?_
  refine g_istore [(4, .int (0 : Int32)), (3, .int (0 : Int32)), (2, .int (0 : Int32)), (0, .int a0), (1, .int a1)] dX2_answerOf_5 (by decide) (zf_i (zf_i (zf_i (zf_i zf_0)))) rfl ?_
  obtain ⟨o1, h1, h2⟩ := zB_e h
  have K1 : ∀ (v2 : Int32), o1 = v2 → zG X cX2_answerOf 5 "QuiverKinModel" "answerOf" 3 64 42 [(0, .int a0), (1, .int a1), (2, .int v2), (3, .int (0 : Int32))] [] g m := by
    intro v2 e
    rw [e] at h2
    have h := h2
    refine g_iconst (v := (0 : Int32)) dX2_answerOf_42 (by decide) ?_
    refine g_istore [(4, .int (0 : Int32)), (0, .int a0), (1, .int a1), (2, .int v2), (3, .int (0 : Int32))] dX2_answerOf_43 (by decide) (zf_i (zf_i (zf_i (zf_i zf_0)))) rfl ?_
    obtain ⟨o12, h1, h2⟩ := zB_e h
    have K12 : ∀ (v13 : Int32), o12 = v13 → zG X cX2_answerOf 5 "QuiverKinModel" "answerOf" 3 64 90 [(2, .int v2), (3, .int v13)] [] g m := by
      intro v13 e
      rw [e] at h2
      have h := h2
      refine g_bipush (v := (10 : Int32)) dX2_answerOf_90 (by decide) ?_
      refine g_iload_n dX2_answerOf_92 0 rfl ?_
      refine g_imul dX2_answerOf_93 ?_
      refine g_iload_n dX2_answerOf_94 1 rfl ?_
      refine g_iadd dX2_answerOf_95 ?_
      refine g_iload_n dX2_answerOf_96 0 rfl ?_
      refine g_isub dX2_answerOf_97 ?_
      refine g_iret dX2_answerOf_98 hxt ?_
      have e := Option.some.inj h
      exact Kret _ e
    refine zG.sub [1, 2, 3, 4, 0] rfl ?_
    refine zLoop_ok (Φ := (fun (q : Int32 × Int32) => match q with | (v15, v16) => zG X cX2_answerOf 5 "QuiverKinModel" "answerOf" 3 64 45 [(0, .int a0), (1, .int a1), (2, .int v2), (3, .int v15), (4, .int v16)] [] g m)) o12 ?_ zFuel _ h1
    rintro ⟨v15, v16⟩ x14 h hl14 hr14
    unfold b_X2_answerOf_45 at h
    have K14 : ∀ (v15 : Int32) (v16 : Int32), x14 = .inr (v15, v16) → zG X cX2_answerOf 5 "QuiverKinModel" "answerOf" 3 64 45 [(0, .int a0), (1, .int a1), (2, .int v2), (3, .int v15), (4, .int v16)] [] g m := by
      intro v15 v16 e
      exact hr14 _ e
    show zG X cX2_answerOf 5 "QuiverKinModel" "answerOf" 3 64 45 [(0, .int a0), (1, .int a1), (2, .int v2), (3, .int v15), (4, .int v16)] [] g m
    refine g_iload dX2_answerOf_45 4 rfl ?_
    refine g_iconst (v := (5 : Int32)) dX2_answerOf_47 (by decide) ?_
    refine g_icmp_ge 90 dX2_answerOf_48 (by decide) (fun c => ?_) (fun c => ?_)
    · have h := zite_p h c
      refine zG.sub [2, 3] rfl ?_
      have e := Option.some.inj h
      have e := hl14 _ e.symm
      exact K12 _ e.symm
    · have h := zite_n h c
      refine g_iload_n dX2_answerOf_51 3 rfl ?_
      refine g_iload_n dX2_answerOf_52 0 rfl ?_
      refine g_iload dX2_answerOf_53 4 rfl ?_
      refine g_cSRv (rv := fun x : Int32 => Value.int x) [.int a0, .int v16] (fun x0 e0 => ok_X2_countOf (xl X) g m a0 v16 x0 e0) (lw_S q1979 q1980 q126 q1981) hy_X2_countOf rfl ⟨by decide, by decide⟩ rfl (zc_i zc_0) (by decide) dX2_answerOf_55 h (fun v17 h => ?_)
      refine g_iload_n dX2_answerOf_58 1 rfl ?_
      refine g_iload dX2_answerOf_59 4 rfl ?_
      refine g_cSRv (rv := fun x : Int32 => Value.int x) [.int a1, .int v16] (fun x0 e0 => ok_X2_countOf (xl X) g m a1 v16 x0 e0) (lw_S q1979 q1980 q126 q1981) hy_X2_countOf rfl ⟨by decide, by decide⟩ rfl (zc_i (zc_i zc_0)) (by decide) dX2_answerOf_61 h (fun v18 h => ?_)
      refine g_icmp_ge 76 dX2_answerOf_64 (by decide) (fun c => ?_) (fun c => ?_)
      · have h := zite_p h c
        refine g_iload_n dX2_answerOf_76 1 rfl ?_
        refine g_iload dX2_answerOf_77 4 rfl ?_
        refine g_cSRv (rv := fun x : Int32 => Value.int x) [.int a1, .int v16] (fun x0 e0 => ok_X2_countOf (xl X) g m a1 v16 x0 e0) (lw_S q1979 q1980 q126 q1981) hy_X2_countOf rfl ⟨by decide, by decide⟩ rfl (zc_i zc_0) (by decide) dX2_answerOf_79 h (fun v19 h => ?_)
        refine g_iadd dX2_answerOf_82 ?_
        refine g_leti h (fun v20 h => ?_)
        refine g_istore_n [(3, .int v20), (0, .int a0), (1, .int a1), (2, .int v2), (4, .int v16)] dX2_answerOf_83 (by decide) (zf_i (zf_i (zf_i (zf_i (zf_i zf_0))))) rfl ?_
        refine g_iinc (v := (1 : Int32)) [(3, .int v20), (0, .int a0), (1, .int a1), (2, .int v2)] dX2_answerOf_84 4 rfl (by decide) (by decide) (zf_i (zf_i (zf_i (zf_i (zf_i zf_0))))) rfl h (fun v21 h => ?_)
        refine g_goto 45 dX2_answerOf_87 (by decide) ?_
        refine zG.sub [2, 3, 4, 1, 0] rfl ?_
        have e := Option.some.inj h
        exact K14 _ _ e.symm
      · have h := zite_n h c
        refine g_iload_n dX2_answerOf_67 0 rfl ?_
        refine g_iload dX2_answerOf_68 4 rfl ?_
        refine g_cSRv (rv := fun x : Int32 => Value.int x) [.int a0, .int v16] (fun x0 e0 => ok_X2_countOf (xl X) g m a0 v16 x0 e0) (lw_S q1979 q1980 q126 q1981) hy_X2_countOf rfl ⟨by decide, by decide⟩ rfl (zc_i zc_0) (by decide) dX2_answerOf_70 h (fun v22 h => ?_)
        refine g_goto 82 dX2_answerOf_73 (by decide) ?_
        refine g_iadd dX2_answerOf_82 ?_
        refine g_leti h (fun v23 h => ?_)
        refine g_istore_n [(3, .int v23), (0, .int a0), (1, .int a1), (2, .int v2), (4, .int v16)] dX2_answerOf_83 (by decide) (zf_i (zf_i (zf_i (zf_i (zf_i zf_0))))) rfl ?_
        refine g_iinc (v := (1 : Int32)) [(3, .int v23), (0, .int a0), (1, .int a1), (2, .int v2)] dX2_answerOf_84 4 rfl (by decide) (by decide) (zf_i (zf_i (zf_i (zf_i (zf_i zf_0))))) rfl h (fun v24 h => ?_)
        refine g_goto 45 dX2_answerOf_87 (by decide) ?_
        refine zG.sub [2, 3, 4, 1, 0] rfl ?_
        have e := Option.some.inj h
        exact K14 _ _ e.symm
  refine zG.sub [3, 4, 2, 1, 0] rfl ?_
  refine zLoop_ok (Φ := (fun (q : Int32 × Int32) => match q with | (v4, v5) => zG X cX2_answerOf 5 "QuiverKinModel" "answerOf" 3 64 7 [(0, .int a0), (1, .int a1), (2, .int v4), (3, .int (0 : Int32)), (4, .int v5)] [] g m)) o1 ?_ zFuel _ h1
  rintro ⟨v4, v5⟩ x3 h hl3 hr3
  unfold b_X2_answerOf_7 at h
  have K3 : ∀ (v4 : Int32) (v5 : Int32), x3 = .inr (v4, v5) → zG X cX2_answerOf 5 "QuiverKinModel" "answerOf" 3 64 7 [(0, .int a0), (1, .int a1), (2, .int v4), (3, .int (0 : Int32)), (4, .int v5)] [] g m := by
    intro v4 v5 e
    exact hr3 _ e
  show zG X cX2_answerOf 5 "QuiverKinModel" "answerOf" 3 64 7 [(0, .int a0), (1, .int a1), (2, .int v4), (3, .int (0 : Int32)), (4, .int v5)] [] g m
  refine g_iload dX2_answerOf_7 4 rfl ?_
  refine g_iconst (v := (3 : Int32)) dX2_answerOf_9 (by decide) ?_
  refine g_icmp_ge 42 dX2_answerOf_10 (by decide) (fun c => ?_) (fun c => ?_)
  · have h := zite_p h c
    refine zG.sub [0, 1, 2, 3] rfl ?_
    have e := Option.some.inj h
    have e := hl3 _ e.symm
    exact K1 _ e.symm
  · have h := zite_n h c
    refine g_iload_n dX2_answerOf_13 2 rfl ?_
    refine g_iload_n dX2_answerOf_14 0 rfl ?_
    refine g_iload dX2_answerOf_15 4 rfl ?_
    refine g_cSRv (rv := fun x : Int32 => Value.int x) [.int a0, .int v5] (fun x0 e0 => ok_X2_digitOf (xl X) g m a0 v5 x0 e0) (lw_S q1976 q1977 q126 q1978) hy_X2_digitOf rfl ⟨by decide, by decide⟩ rfl (zc_i zc_0) (by decide) dX2_answerOf_17 h (fun v6 h => ?_)
    refine g_iload_n dX2_answerOf_20 1 rfl ?_
    refine g_iload dX2_answerOf_21 4 rfl ?_
    refine g_cSRv (rv := fun x : Int32 => Value.int x) [.int a1, .int v5] (fun x0 e0 => ok_X2_digitOf (xl X) g m a1 v5 x0 e0) (lw_S q1976 q1977 q126 q1978) hy_X2_digitOf rfl ⟨by decide, by decide⟩ rfl (zc_i (zc_i zc_0)) (by decide) dX2_answerOf_23 h (fun v7 h => ?_)
    refine g_icmp_ne 33 dX2_answerOf_26 (by decide) (fun c => ?_) (fun c => ?_)
    · have h := zite_n h c
      refine g_iconst (v := (0 : Int32)) dX2_answerOf_33 (by decide) ?_
      refine g_iadd dX2_answerOf_34 ?_
      refine g_leti h (fun v8 h => ?_)
      refine g_istore_n [(2, .int v8), (0, .int a0), (1, .int a1), (3, .int (0 : Int32)), (4, .int v5)] dX2_answerOf_35 (by decide) (zf_i (zf_i (zf_i (zf_i (zf_i zf_0))))) rfl ?_
      refine g_iinc (v := (1 : Int32)) [(2, .int v8), (0, .int a0), (1, .int a1), (3, .int (0 : Int32))] dX2_answerOf_36 4 rfl (by decide) (by decide) (zf_i (zf_i (zf_i (zf_i (zf_i zf_0))))) rfl h (fun v9 h => ?_)
      refine g_goto 7 dX2_answerOf_39 (by decide) ?_
      refine zG.sub [2, 3, 1, 4, 0] rfl ?_
      have e := Option.some.inj h
      exact K3 _ _ e.symm
    · have h := zite_p h c
      refine g_iconst (v := (1 : Int32)) dX2_answerOf_29 (by decide) ?_
      refine g_goto 34 dX2_answerOf_30 (by decide) ?_
      refine g_iadd dX2_answerOf_34 ?_
      refine g_leti h (fun v10 h => ?_)
      refine g_istore_n [(2, .int v10), (0, .int a0), (1, .int a1), (3, .int (0 : Int32)), (4, .int v5)] dX2_answerOf_35 (by decide) (zf_i (zf_i (zf_i (zf_i (zf_i zf_0))))) rfl ?_
      refine g_iinc (v := (1 : Int32)) [(2, .int v10), (0, .int a0), (1, .int a1), (3, .int (0 : Int32))] dX2_answerOf_36 4 rfl (by decide) (by decide) (zf_i (zf_i (zf_i (zf_i (zf_i zf_0))))) rfl h (fun v11 h => ?_)
      refine g_goto 7 dX2_answerOf_39 (by decide) ?_
      refine zG.sub [2, 3, 1, 4, 0] rfl ?_
      have e := Option.some.inj h
      exact K3 _ _ e.symm
/-! QuiverKinModel.answer -/
def f_X2_answer (g : zGd) (m : zMm) (a0 : Option Nat) (a1 : Int32) (a2 : Int32) : Option (Int32) :=
(f_X2_isRow a1).bind fun v1 =>
if v1 = 0 then (some ((-1 : Int32)))
else ((f_X2_isRow a2).bind fun v2 =>
if v2 = 0 then (some ((-1 : Int32)))
else ((f_X2_answerOf a1 a2).bind fun v3 =>
some (v3)))
theorem hy_X2_answer : zHy yX2_answer 2 := ⟨by decide, by decide, by decide +kernel⟩
set_option maxHeartbeats 4000000 in
theorem ok_X2_answer (l : Launch) (g : zGd) (m : zMm) (a0 : Option Nat) (a1 : Int32) (a2 : Int32) (z0 : Int32) (h : f_X2_answer g m a0 a1 a2 = some z0) : zCT l yX2_answer cX2_answer 3 (some .int) 4 88 g m [va_rf a0, .int a1, .int a2] (some (.int z0)) g m := by
  refine zCT.of (own := "QuiverKinModel") (mn := "answer") (by decide +kernel) rfl rfl (zla_r (zla_i (zla_i zla_0))) (zls_r (zls_i (zls_i zls_0))) (by decide) (fun X hxl hxg hxf hxt hxr hxn => ?_)
  have Kret : ∀ (y0 : Int32), y0 = z0 → zRe X g m (some (.int y0)) := by
    intro y0 e; cases e; exact ⟨hxf, hxr, hxn⟩
  subst hxl
  show zG X cX2_answer 3 "QuiverKinModel" "answer" 4 88 0 [(0, va_rf a0), (1, .int a1), (2, .int a2)] [] g m
  unfold f_X2_answer at h
  refine g_iload_n dX2_answer_0 1 rfl ?_
  refine g_cSRv (rv := fun x : Int32 => Value.int x) [.int a1] (fun x0 e0 => ok_X2_isRow (xl X) g m a1 x0 e0) (lw_S q1966 q1967 q126 q1968) hy_X2_isRow rfl ⟨by decide, by decide⟩ rfl zc_0 (by decide) dX2_answer_1 h (fun v1 h => ?_)
  refine g_if_eq 22 dX2_answer_4 (by decide) (fun c => ?_) (fun c => ?_)
  · have h := zite_p h c
    refine g_iconst (v := (-1 : Int32)) dX2_answer_22 (by decide) ?_
    refine g_iret dX2_answer_23 hxt ?_
    have e := Option.some.inj h
    exact Kret _ e
  · have h := zite_n h c
    refine g_iload_n dX2_answer_7 2 rfl ?_
    refine g_cSRv (rv := fun x : Int32 => Value.int x) [.int a2] (fun x0 e0 => ok_X2_isRow (xl X) g m a2 x0 e0) (lw_S q1966 q1967 q126 q1968) hy_X2_isRow rfl ⟨by decide, by decide⟩ rfl zc_0 (by decide) dX2_answer_8 h (fun v2 h => ?_)
    refine g_if_eq 22 dX2_answer_11 (by decide) (fun c => ?_) (fun c => ?_)
    · have h := zite_p h c
      refine g_iconst (v := (-1 : Int32)) dX2_answer_22 (by decide) ?_
      refine g_iret dX2_answer_23 hxt ?_
      have e := Option.some.inj h
      exact Kret _ e
    · have h := zite_n h c
      refine g_iload_n dX2_answer_14 1 rfl ?_
      refine g_iload_n dX2_answer_15 2 rfl ?_
      refine g_cSRv (rv := fun x : Int32 => Value.int x) [.int a1, .int a2] (fun x0 e0 => ok_X2_answerOf (xl X) g m a1 a2 x0 e0) (lw_S q1973 q1974 q126 q1975) hy_X2_answerOf rfl ⟨by decide, by decide⟩ rfl zc_0 (by decide) dX2_answer_16 h (fun v3 h => ?_)
      refine g_goto 23 dX2_answer_19 (by decide) ?_
      refine g_iret dX2_answer_23 hxt ?_
      have e := Option.some.inj h
      exact Kret _ e
/-! QuiverKinModel.layFits -/
def b_X2_layFits_16 (g : zGd) (a0 : Option Nat) (m7 : zMm) (v6 : Int32) : Int32 × Int32 → Option ((Int32) ⊕ (Int32 × Int32)) := fun (v11, v12) =>
(zgr g m7 2 0 a0).bind fun r13 =>
(zald 101 g m7 r13 (4 : Int32)).bind fun v14 =>
if ((107 : Int32) + ((3 : Int32) * v14)) ≤ v12 then (some (.inl v11))
else (if v11 = 0 then (zlt (v12 + (3 : Int32)) fun v15 =>
some (.inr ((0 : Int32), v15)))
else ((zgr g m7 2 0 a0).bind fun r16 =>
(zald 101 g m7 r16 v12).bind fun v17 =>
(f_X2_answerOf v17 v6).bind fun v18 =>
(zgr g m7 2 0 a0).bind fun r19 =>
(zald 101 g m7 r19 (v12 + (1 : Int32))).bind fun v20 =>
(zgr g m7 2 0 a0).bind fun r21 =>
(zald 101 g m7 r21 (v12 + (2 : Int32))).bind fun v22 =>
if v18 = (((10 : Int32) * v20) + v22) then (zlt (v12 + (3 : Int32)) fun v24 =>
some (.inr ((1 : Int32), v24)))
else (zlt (v12 + (3 : Int32)) fun v23 =>
some (.inr ((0 : Int32), v23)))))
def b_X2_layFits_4 (g : zGd) (a0 : Option Nat) : Int32 × Int32 × zMm → Option ((Int32 × zMm) ⊕ (Int32 × Int32 × zMm)) := fun (v5, v6, m7) =>
if (125 : Int32) ≤ v6 then (some (.inl ((v5, m7))))
else ((zLoop (b_X2_layFits_16 g a0 m7 v6) zFuel ((1 : Int32), (107 : Int32))).bind fun v9 =>
if v9 = 0 then (zlt (v6 + (1 : Int32)) fun v29 =>
some (.inr (v5, v29, m7)))
else ((zgr g m7 2 36 a0).bind fun r25 =>
(zast 101 g m7 r25 v5 v6).bind fun m26 =>
zlt (v5 + (1 : Int32)) fun v27 =>
zlt (v6 + (1 : Int32)) fun v28 =>
some (.inr (v27, v28, m26))))
def f_X2_layFits (g : zGd) (m : zMm) (a0 : Option Nat) : Option (Int32 × zMm) :=
(zLoop (b_X2_layFits_4 g a0) zFuel ((0 : Int32), (0 : Int32), m)).bind fun (v2, m3) =>
some ((v2, m3))
theorem hy_X2_layFits : zHy yX2_layFits 0 := ⟨by decide, by decide, by decide +kernel⟩
set_option maxHeartbeats 4000000 in
theorem ok_X2_layFits (l : Launch) (g : zGd) (m : zMm) (a0 : Option Nat) (z0 : Int32) (m0 : zMm) (h : f_X2_layFits g m a0 = some (z0, m0)) : zCT l yX2_layFits cX2_layFits 5 (some .int) 4 88 g m [va_rf a0] (some (.int z0)) g m0 := by
  refine zCT.of (own := "QuiverKinModel") (mn := "layFits") (by decide +kernel) rfl rfl (zla_r zla_0) (zls_r zls_0) (by decide) (fun X hxl hxg hxf hxt hxr hxn => ?_)
  have Kret : ∀ (y0 : Int32) (y1 : zMm), (y0, y1) = (z0, m0) → zRe X g y1 (some (.int y0)) := by
    intro y0 y1 e; cases e; exact ⟨hxf, hxr, hxn⟩
  subst hxl
  show zG X cX2_layFits 5 "QuiverKinModel" "layFits" 4 88 0 [(0, va_rf a0)] [] g m
  unfold f_X2_layFits at h
  refine g_iconst (v := (0 : Int32)) dX2_layFits_0 (by decide) ?_
  refine g_istore_n [(1, .int (0 : Int32)), (0, va_rf a0)] dX2_layFits_1 (by decide) (zf_r zf_0) rfl ?_
  refine g_iconst (v := (0 : Int32)) dX2_layFits_2 (by decide) ?_
  refine g_istore_n [(2, .int (0 : Int32)), (1, .int (0 : Int32)), (0, va_rf a0)] dX2_layFits_3 (by decide) (zf_i (zf_r zf_0)) rfl ?_
  obtain ⟨o1, h1, h2⟩ := zB_e h
  have K1 : ∀ (v2 : Int32) (m3 : zMm), o1 = (v2, m3) → zG X cX2_layFits 5 "QuiverKinModel" "layFits" 4 88 107 [(1, .int v2)] [] g m3 := by
    intro v2 m3 e
    rw [e] at h2
    have h := h2
    refine g_iload_n dX2_layFits_107 0 rfl ?_
    refine g_iret dX2_layFits_108 hxt ?_
    have e := Option.some.inj h
    exact Kret _ _ e
  refine zG.sub [2, 1, 0] rfl ?_
  refine zLoop_ok (Φ := (fun (q : Int32 × Int32 × zMm) => match q with | (v5, v6, m7) => zG X cX2_layFits 5 "QuiverKinModel" "layFits" 4 88 4 [(0, va_rf a0), (1, .int v5), (2, .int v6)] [] g m7)) o1 ?_ zFuel _ h1
  rintro ⟨v5, v6, m7⟩ x4 h hl4 hr4
  unfold b_X2_layFits_4 at h
  have K4 : ∀ (v5 : Int32) (v6 : Int32) (m7 : zMm), x4 = .inr (v5, v6, m7) → zG X cX2_layFits 5 "QuiverKinModel" "layFits" 4 88 4 [(0, va_rf a0), (1, .int v5), (2, .int v6)] [] g m7 := by
    intro v5 v6 m7 e
    exact hr4 _ e
  show zG X cX2_layFits 5 "QuiverKinModel" "layFits" 4 88 4 [(0, va_rf a0), (1, .int v5), (2, .int v6)] [] g m7
  refine g_iload_n dX2_layFits_4 2 rfl ?_
  refine g_bipush (v := (125 : Int32)) dX2_layFits_5 (by decide) ?_
  refine g_icmp_ge 107 dX2_layFits_7 (by decide) (fun c => ?_) (fun c => ?_)
  · have h := zite_p h c
    refine zG.sub [1] rfl ?_
    have e := Option.some.inj h
    have e := hl4 _ e.symm
    exact K1 _ _ e.symm
  · have h := zite_n h c
    refine g_iconst (v := (1 : Int32)) dX2_layFits_10 (by decide) ?_
    refine g_istore_n [(3, .int (1 : Int32)), (0, va_rf a0), (1, .int v5), (2, .int v6)] dX2_layFits_11 (by decide) (zf_r (zf_i (zf_i zf_0))) rfl ?_
    refine g_bipush (v := (107 : Int32)) dX2_layFits_12 (by decide) ?_
    refine g_istore [(4, .int (107 : Int32)), (3, .int (1 : Int32)), (0, va_rf a0), (1, .int v5), (2, .int v6)] dX2_layFits_14 (by decide) (zf_i (zf_r (zf_i (zf_i zf_0)))) rfl ?_
    obtain ⟨o8, h1, h2⟩ := zB_e h
    have K8 : ∀ (v9 : Int32), o8 = v9 → zG X cX2_layFits 5 "QuiverKinModel" "layFits" 4 88 84 [(0, va_rf a0), (1, .int v5), (2, .int v6), (3, .int v9)] [] g m7 := by
      intro v9 e
      rw [e] at h2
      have h := h2
      refine g_iload_n dX2_layFits_84 3 rfl ?_
      refine g_if_ne 91 dX2_layFits_85 (by decide) (fun c => ?_) (fun c => ?_)
      · have h := zite_n h c
        refine g_aload_n dX2_layFits_91 0 rfl ?_
        refine gf_r zfd_2_36 q1446  (fun _ h9 => h9) dX2_layFits_92 h (fun r25 h => ?_)
        refine g_iload_n dX2_layFits_95 1 rfl ?_
        refine g_iload_n dX2_layFits_96 2 rfl ?_
        refine g_iast dX2_layFits_97 h (fun m26 h => ?_)
        refine g_iinc (v := (1 : Int32)) [(0, va_rf a0), (2, .int v6), (3, .int v9)] dX2_layFits_98 1 rfl (by decide) (by decide) (zf_r (zf_i (zf_i (zf_i zf_0)))) rfl h (fun v27 h => ?_)
        refine g_iinc (v := (1 : Int32)) [(1, .int v27), (0, va_rf a0), (3, .int v9)] dX2_layFits_101 2 rfl (by decide) (by decide) (zf_i (zf_r (zf_i (zf_i zf_0)))) rfl h (fun v28 h => ?_)
        refine g_goto 4 dX2_layFits_104 (by decide) ?_
        refine zG.sub [2, 1, 0] rfl ?_
        have e := Option.some.inj h
        exact K4 _ _ _ e.symm
      · have h := zite_p h c
        refine g_goto 101 dX2_layFits_88 (by decide) ?_
        refine g_iinc (v := (1 : Int32)) [(0, va_rf a0), (1, .int v5), (3, .int v9)] dX2_layFits_101 2 rfl (by decide) (by decide) (zf_r (zf_i (zf_i (zf_i zf_0)))) rfl h (fun v29 h => ?_)
        refine g_goto 4 dX2_layFits_104 (by decide) ?_
        refine zG.sub [1, 2, 0] rfl ?_
        have e := Option.some.inj h
        exact K4 _ _ _ e.symm
    refine zG.sub [2, 3, 4, 1, 0] rfl ?_
    refine zLoop_ok (Φ := (fun (q : Int32 × Int32) => match q with | (v11, v12) => zG X cX2_layFits 5 "QuiverKinModel" "layFits" 4 88 16 [(0, va_rf a0), (1, .int v5), (2, .int v6), (3, .int v11), (4, .int v12)] [] g m7)) o8 ?_ zFuel _ h1
    rintro ⟨v11, v12⟩ x10 h hl10 hr10
    unfold b_X2_layFits_16 at h
    have K10 : ∀ (v11 : Int32) (v12 : Int32), x10 = .inr (v11, v12) → zG X cX2_layFits 5 "QuiverKinModel" "layFits" 4 88 16 [(0, va_rf a0), (1, .int v5), (2, .int v6), (3, .int v11), (4, .int v12)] [] g m7 := by
      intro v11 v12 e
      exact hr10 _ e
    show zG X cX2_layFits 5 "QuiverKinModel" "layFits" 4 88 16 [(0, va_rf a0), (1, .int v5), (2, .int v6), (3, .int v11), (4, .int v12)] [] g m7
    refine g_iload dX2_layFits_16 4 rfl ?_
    refine g_bipush (v := (107 : Int32)) dX2_layFits_18 (by decide) ?_
    refine g_iconst (v := (3 : Int32)) dX2_layFits_20 (by decide) ?_
    refine g_aload_n dX2_layFits_21 0 rfl ?_
    refine gf_r zfd_2_0 q1410  (fun _ h9 => h9) dX2_layFits_22 h (fun r13 h => ?_)
    refine g_iconst (v := (4 : Int32)) dX2_layFits_25 (by decide) ?_
    refine g_iald dX2_layFits_26 h (fun v14 h => ?_)
    refine g_imul dX2_layFits_27 ?_
    refine g_iadd dX2_layFits_28 ?_
    refine g_icmp_ge 84 dX2_layFits_29 (by decide) (fun c => ?_) (fun c => ?_)
    · have h := zite_p h c
      refine zG.sub [0, 1, 2, 3] rfl ?_
      have e := Option.some.inj h
      have e := hl10 _ e.symm
      exact K8 _ e.symm
    · have h := zite_n h c
      refine g_iload_n dX2_layFits_32 3 rfl ?_
      refine g_if_eq 76 dX2_layFits_33 (by decide) (fun c => ?_) (fun c => ?_)
      · have h := zite_p h c
        refine g_iconst (v := (0 : Int32)) dX2_layFits_76 (by decide) ?_
        refine g_istore_n [(3, .int (0 : Int32)), (0, va_rf a0), (1, .int v5), (2, .int v6), (4, .int v12)] dX2_layFits_77 (by decide) (zf_r (zf_i (zf_i (zf_i (zf_i zf_0))))) rfl ?_
        refine g_iinc (v := (3 : Int32)) [(3, .int (0 : Int32)), (0, va_rf a0), (1, .int v5), (2, .int v6)] dX2_layFits_78 4 rfl (by decide) (by decide) (zf_i (zf_r (zf_i (zf_i (zf_i zf_0))))) rfl h (fun v15 h => ?_)
        refine g_goto 16 dX2_layFits_81 (by decide) ?_
        refine zG.sub [2, 3, 4, 1, 0] rfl ?_
        have e := Option.some.inj h
        exact K10 _ _ e.symm
      · have h := zite_n h c
        refine g_aload_n dX2_layFits_36 0 rfl ?_
        refine gf_r zfd_2_0 q1410  (fun _ h9 => h9) dX2_layFits_37 h (fun r16 h => ?_)
        refine g_iload dX2_layFits_40 4 rfl ?_
        refine g_iald dX2_layFits_42 h (fun v17 h => ?_)
        refine g_iload_n dX2_layFits_43 2 rfl ?_
        refine g_cSRv (rv := fun x : Int32 => Value.int x) [.int v17, .int v6] (fun x0 e0 => ok_X2_answerOf (xl X) g m7 v17 v6 x0 e0) (lw_S q1973 q1974 q126 q1975) hy_X2_answerOf rfl ⟨by decide, by decide⟩ rfl zc_0 (by decide) dX2_layFits_44 h (fun v18 h => ?_)
        refine g_bipush (v := (10 : Int32)) dX2_layFits_47 (by decide) ?_
        refine g_aload_n dX2_layFits_49 0 rfl ?_
        refine gf_r zfd_2_0 q1410  (fun _ h9 => h9) dX2_layFits_50 h (fun r19 h => ?_)
        refine g_iload dX2_layFits_53 4 rfl ?_
        refine g_iconst (v := (1 : Int32)) dX2_layFits_55 (by decide) ?_
        refine g_iadd dX2_layFits_56 ?_
        refine g_iald dX2_layFits_57 h (fun v20 h => ?_)
        refine g_imul dX2_layFits_58 ?_
        refine g_aload_n dX2_layFits_59 0 rfl ?_
        refine gf_r zfd_2_0 q1410  (fun _ h9 => h9) dX2_layFits_60 h (fun r21 h => ?_)
        refine g_iload dX2_layFits_63 4 rfl ?_
        refine g_iconst (v := (2 : Int32)) dX2_layFits_65 (by decide) ?_
        refine g_iadd dX2_layFits_66 ?_
        refine g_iald dX2_layFits_67 h (fun v22 h => ?_)
        refine g_iadd dX2_layFits_68 ?_
        refine g_icmp_ne 76 dX2_layFits_69 (by decide) (fun c => ?_) (fun c => ?_)
        · have h := zite_n h c
          refine g_iconst (v := (0 : Int32)) dX2_layFits_76 (by decide) ?_
          refine g_istore_n [(3, .int (0 : Int32)), (0, va_rf a0), (1, .int v5), (2, .int v6), (4, .int v12)] dX2_layFits_77 (by decide) (zf_r (zf_i (zf_i (zf_i (zf_i zf_0))))) rfl ?_
          refine g_iinc (v := (3 : Int32)) [(3, .int (0 : Int32)), (0, va_rf a0), (1, .int v5), (2, .int v6)] dX2_layFits_78 4 rfl (by decide) (by decide) (zf_i (zf_r (zf_i (zf_i (zf_i zf_0))))) rfl h (fun v23 h => ?_)
          refine g_goto 16 dX2_layFits_81 (by decide) ?_
          refine zG.sub [2, 3, 4, 1, 0] rfl ?_
          have e := Option.some.inj h
          exact K10 _ _ e.symm
        · have h := zite_p h c
          refine g_iconst (v := (1 : Int32)) dX2_layFits_72 (by decide) ?_
          refine g_goto 77 dX2_layFits_73 (by decide) ?_
          refine g_istore_n [(3, .int (1 : Int32)), (0, va_rf a0), (1, .int v5), (2, .int v6), (4, .int v12)] dX2_layFits_77 (by decide) (zf_r (zf_i (zf_i (zf_i (zf_i zf_0))))) rfl ?_
          refine g_iinc (v := (3 : Int32)) [(3, .int (1 : Int32)), (0, va_rf a0), (1, .int v5), (2, .int v6)] dX2_layFits_78 4 rfl (by decide) (by decide) (zf_i (zf_r (zf_i (zf_i (zf_i zf_0))))) rfl h (fun v24 h => ?_)
          refine g_goto 16 dX2_layFits_81 (by decide) ?_
          refine zG.sub [2, 3, 4, 1, 0] rfl ?_
          have e := Option.some.inj h
          exact K10 _ _ e.symm
/-! QuiverKinModel.fits -/
def f_X2_fits (g : zGd) (m : zMm) (a0 : Option Nat) : Option (Int32 × zMm) :=
(zrc g 2 a0 (f_X2_layFits g m a0)).bind fun (v1, m2) =>
some ((v1, m2))
theorem hy_X2_fits : zHy yX2_fits 0 := ⟨by decide, by decide, by decide +kernel⟩
set_option maxHeartbeats 4000000 in
theorem ok_X2_fits (l : Launch) (g : zGd) (m : zMm) (a0 : Option Nat) (z0 : Int32) (m0 : zMm) (h : f_X2_fits g m a0 = some (z0, m0)) : zCT l yX2_fits cX2_fits 1 (some .int) 5 112 g m [va_rf a0] (some (.int z0)) g m0 := by
  refine zCT.of (own := "QuiverKinModel") (mn := "fits") (by decide +kernel) rfl rfl (zla_r zla_0) (zls_r zls_0) (by decide) (fun X hxl hxg hxf hxt hxr hxn => ?_)
  have Kret : ∀ (y0 : Int32) (y1 : zMm), (y0, y1) = (z0, m0) → zRe X g y1 (some (.int y0)) := by
    intro y0 y1 e; cases e; exact ⟨hxf, hxr, hxn⟩
  subst hxl
  show zG X cX2_fits 1 "QuiverKinModel" "fits" 5 112 0 [(0, va_rf a0)] [] g m
  unfold f_X2_fits at h
  refine g_aload_n dX2_fits_0 0 rfl ?_
  refine g_cVMv (rv := fun x : Int32 => Value.int x) [] (fun x0 m0 e0 => ok_X2_layFits (xl X) g m a0 x0 m0 e0) zc2 (by decide) (lw_V q1986 q1988 qs112 q126 q1989) rfl hy_X2_layFits rfl ⟨by decide, by decide⟩ rfl zc_0 (by decide) dX2_fits_1 h (fun v1 m2 h => ?_)
  refine g_iret dX2_fits_4 hxt ?_
  have e := Option.some.inj h
  exact Kret _ _ e
/-! QuiverKinModel.fit -/
def f_X2_fit (g : zGd) (m : zMm) (a0 : Option Nat) (a1 : Int32) : Option (Int32 × zMm) :=
(zrc g 2 a0 (f_X2_layFits g m a0)).bind fun (v1, m2) =>
(f_X2_isIn a1 (0 : Int32) (v1 - (1 : Int32))).bind fun v3 =>
if v3 = 0 then (some (((-1 : Int32), m2)))
else ((zgr g m2 2 36 a0).bind fun r4 =>
(zald 101 g m2 r4 a1).bind fun v5 =>
some ((v5, m2)))
theorem hy_X2_fit : zHy yX2_fit 1 := ⟨by decide, by decide, by decide +kernel⟩
set_option maxHeartbeats 4000000 in
theorem ok_X2_fit (l : Launch) (g : zGd) (m : zMm) (a0 : Option Nat) (a1 : Int32) (z0 : Int32) (m0 : zMm) (h : f_X2_fit g m a0 a1 = some (z0, m0)) : zCT l yX2_fit cX2_fit 2 (some .int) 5 112 g m [va_rf a0, .int a1] (some (.int z0)) g m0 := by
  refine zCT.of (own := "QuiverKinModel") (mn := "fit") (by decide +kernel) rfl rfl (zla_r (zla_i zla_0)) (zls_r (zls_i zls_0)) (by decide) (fun X hxl hxg hxf hxt hxr hxn => ?_)
  have Kret : ∀ (y0 : Int32) (y1 : zMm), (y0, y1) = (z0, m0) → zRe X g y1 (some (.int y0)) := by
    intro y0 y1 e; cases e; exact ⟨hxf, hxr, hxn⟩
  subst hxl
  show zG X cX2_fit 2 "QuiverKinModel" "fit" 5 112 0 [(0, va_rf a0), (1, .int a1)] [] g m
  unfold f_X2_fit at h
  refine g_iload_n dX2_fit_0 1 rfl ?_
  refine g_iconst (v := (0 : Int32)) dX2_fit_1 (by decide) ?_
  refine g_aload_n dX2_fit_2 0 rfl ?_
  refine g_cVMv (rv := fun x : Int32 => Value.int x) [] (fun x0 m0 e0 => ok_X2_layFits (xl X) g m a0 x0 m0 e0) zc2 (by decide) (lw_V q1986 q1988 qs112 q126 q1989) rfl hy_X2_layFits rfl ⟨by decide, by decide⟩ rfl (zc_i (zc_i zc_0)) (by decide) dX2_fit_3 h (fun v1 m2 h => ?_)
  refine g_iconst (v := (1 : Int32)) dX2_fit_6 (by decide) ?_
  refine g_isub dX2_fit_7 ?_
  refine g_cSRv (rv := fun x : Int32 => Value.int x) [.int a1, .int (0 : Int32), .int (v1 - (1 : Int32))] (fun x0 e0 => ok_X2_isIn (xl X) g m2 a1 (0 : Int32) (v1 - (1 : Int32)) x0 e0) (lw_S q1534 q1535 q126 q1536) hy_X2_isIn rfl ⟨by decide, by decide⟩ rfl zc_0 (by decide) dX2_fit_8 h (fun v3 h => ?_)
  refine g_if_eq 23 dX2_fit_11 (by decide) (fun c => ?_) (fun c => ?_)
  · have h := zite_p h c
    refine g_iconst (v := (-1 : Int32)) dX2_fit_23 (by decide) ?_
    refine g_iret dX2_fit_24 hxt ?_
    have e := Option.some.inj h
    exact Kret _ _ e
  · have h := zite_n h c
    refine g_aload_n dX2_fit_14 0 rfl ?_
    refine gf_r zfd_2_36 q1446  (fun _ h9 => h9) dX2_fit_15 h (fun r4 h => ?_)
    refine g_iload_n dX2_fit_18 1 rfl ?_
    refine g_iald dX2_fit_19 h (fun v5 h => ?_)
    refine g_goto 24 dX2_fit_20 (by decide) ?_
    refine g_iret dX2_fit_24 hxt ?_
    have e := Option.some.inj h
    exact Kret _ _ e
/-! QuiverKinModel.isFitting -/
def b_X2_isFitting_2 (g : zGd) (m : zMm) (a0 : Option Nat) (a1 : Int32) (a2 : Int32) : Int32 → Option ((((Int32) ⊕ (Unit))) ⊕ (Int32)) := fun v3 =>
if a2 ≤ v3 then (some (.inl (.inr ())))
else ((zgr g m 2 36 a0).bind fun r4 =>
(zald 101 g m r4 v3).bind fun v5 =>
if v5 = a1 then (some (.inl (.inl ((1 : Int32)))))
else (zlt (v3 + (1 : Int32)) fun v6 =>
some (.inr v6)))
def f_X2_isFitting (g : zGd) (m : zMm) (a0 : Option Nat) (a1 : Int32) (a2 : Int32) : Option (Int32) :=
zEx (σ := Unit) (zLoop (b_X2_isFitting_2 g m a0 a1 a2) zFuel (0 : Int32)) fun _ =>
some ((0 : Int32))
theorem hy_X2_isFitting : zHy yX2_isFitting 2 := ⟨by decide, by decide, by decide +kernel⟩
set_option maxHeartbeats 4000000 in
theorem ok_X2_isFitting (l : Launch) (g : zGd) (m : zMm) (a0 : Option Nat) (a1 : Int32) (a2 : Int32) (z0 : Int32) (h : f_X2_isFitting g m a0 a1 a2 = some z0) : zCT l yX2_isFitting cX2_isFitting 4 (some .boolean) 1 20 g m [va_rf a0, .int a1, .int a2] (some (.int z0)) g m := by
  refine zCT.of (own := "QuiverKinModel") (mn := "isFitting") (by decide +kernel) rfl rfl (zla_r (zla_i (zla_i zla_0))) (zls_r (zls_i (zls_i zls_0))) (by decide) (fun X hxl hxg hxf hxt hxr hxn => ?_)
  have Kret : ∀ (y0 : Int32), y0 = z0 → zRe X g m (some (.int y0)) := by
    intro y0 e; cases e; exact ⟨hxf, hxr, hxn⟩
  subst hxl
  show zG X cX2_isFitting 4 "QuiverKinModel" "isFitting" 1 20 0 [(0, va_rf a0), (1, .int a1), (2, .int a2)] [] g m
  unfold f_X2_isFitting at h
  refine g_iconst (v := (0 : Int32)) dX2_isFitting_0 (by decide) ?_
  refine g_istore_n [(3, .int (0 : Int32)), (0, va_rf a0), (1, .int a1), (2, .int a2)] dX2_isFitting_1 (by decide) (zf_r (zf_i (zf_i zf_0))) rfl ?_
  obtain ⟨o1, h1, hl1, hr1⟩ := zEx_e h
  have K1 : o1 = .inr () → zG X cX2_isFitting 4 "QuiverKinModel" "isFitting" 1 20 25 [] [] g m := by
    intro e
    have h := hr1 _ e
    refine g_iconst (v := (0 : Int32)) dX2_isFitting_25 (by decide) ?_
    refine g_zret dX2_isFitting_26 hxt rfl ?_
    have e := Option.some.inj h
    exact Kret _ e
  refine zG.sub [1, 2, 3, 0] rfl ?_
  refine zLoop_ok (Φ := (fun v3 : Int32 => zG X cX2_isFitting 4 "QuiverKinModel" "isFitting" 1 20 2 [(0, va_rf a0), (1, .int a1), (2, .int a2), (3, .int v3)] [] g m)) o1 ?_ zFuel _ h1
  rintro v3 x2 h hl2 hr2
  unfold b_X2_isFitting_2 at h
  have K2 : ∀ (v3 : Int32), x2 = .inr v3 → zG X cX2_isFitting 4 "QuiverKinModel" "isFitting" 1 20 2 [(0, va_rf a0), (1, .int a1), (2, .int a2), (3, .int v3)] [] g m := by
    intro v3 e
    exact hr2 _ e
  show zG X cX2_isFitting 4 "QuiverKinModel" "isFitting" 1 20 2 [(0, va_rf a0), (1, .int a1), (2, .int a2), (3, .int v3)] [] g m
  refine g_iload_n dX2_isFitting_2 3 rfl ?_
  refine g_iload_n dX2_isFitting_3 2 rfl ?_
  refine g_icmp_ge 25 dX2_isFitting_4 (by decide) (fun c => ?_) (fun c => ?_)
  · have h := zite_p h c
    refine zG.sub [] rfl ?_
    have e := Option.some.inj h
    have e := hl2 _ e.symm
    exact K1 e.symm
  · have h := zite_n h c
    refine g_aload_n dX2_isFitting_7 0 rfl ?_
    refine gf_r zfd_2_36 q1446  (fun _ h9 => h9) dX2_isFitting_8 h (fun r4 h => ?_)
    refine g_iload_n dX2_isFitting_11 3 rfl ?_
    refine g_iald dX2_isFitting_12 h (fun v5 h => ?_)
    refine g_iload_n dX2_isFitting_13 1 rfl ?_
    refine g_icmp_ne 19 dX2_isFitting_14 (by decide) (fun c => ?_) (fun c => ?_)
    · have h := zite_n h c
      refine g_iinc (v := (1 : Int32)) [(0, va_rf a0), (1, .int a1), (2, .int a2)] dX2_isFitting_19 3 rfl (by decide) (by decide) (zf_r (zf_i (zf_i (zf_i zf_0)))) rfl h (fun v6 h => ?_)
      refine g_goto 2 dX2_isFitting_22 (by decide) ?_
      refine zG.sub [1, 2, 3, 0] rfl ?_
      have e := Option.some.inj h
      exact K2 _ e.symm
    · have h := zite_p h c
      refine g_iconst (v := (1 : Int32)) dX2_isFitting_17 (by decide) ?_
      refine g_zret dX2_isFitting_18 hxt rfl ?_
      have e := Option.some.inj h
      have e := hl2 _ e.symm
      have e := hl1 _ e.symm
      exact Kret _ e
/-! QuiverKinModel.mostAlike -/
def b_X2_mostAlike_2 (g : zGd) (a0 : Option Nat) : Int32 × zMm → Option ((zMm) ⊕ (Int32 × zMm)) := fun (v4, m5) =>
if (31 : Int32) ≤ v4 then (some (.inl m5))
else ((zgr g m5 2 37 a0).bind fun r6 =>
(zast 101 g m5 r6 v4 (0 : Int32)).bind fun m7 =>
zlt (v4 + (1 : Int32)) fun v8 =>
some (.inr (v8, m7)))
def b_X2_mostAlike_26 (g : zGd) (a0 : Option Nat) (a1 : Int32) (a2 : Int32) : Int32 × Int32 × zMm → Option ((Int32 × zMm) ⊕ (Int32 × Int32 × zMm)) := fun (v13, v14, m15) =>
if a2 ≤ v14 then (some (.inl ((v13, m15))))
else ((zgr g m15 2 36 a0).bind fun r16 =>
(zald 101 g m15 r16 v14).bind fun v17 =>
(f_X2_answerOf a1 v17).bind fun v18 =>
(zgr g m15 2 37 a0).bind fun r19 =>
(zald 101 g m15 r19 v18).bind fun v20 =>
(zast 101 g m15 r19 v18 (v20 + (1 : Int32))).bind fun m21 =>
(zgr g m21 2 37 a0).bind fun r22 =>
(zald 101 g m21 r22 v18).bind fun v23 =>
if v23 ≤ v13 then (zlt (v14 + (1 : Int32)) fun v24 =>
some (.inr (v13, v24, m21)))
else ((zgr g m21 2 37 a0).bind fun r25 =>
(zald 101 g m21 r25 v18).bind fun v26 =>
zlt (v14 + (1 : Int32)) fun v27 =>
some (.inr (v26, v27, m21))))
def f_X2_mostAlike (g : zGd) (m : zMm) (a0 : Option Nat) (a1 : Int32) (a2 : Int32) : Option (Int32 × zMm) :=
(zLoop (b_X2_mostAlike_2 g a0) zFuel ((0 : Int32), m)).bind fun m2 =>
(zLoop (b_X2_mostAlike_26 g a0 a1 a2) zFuel ((0 : Int32), (0 : Int32), m2)).bind fun (v10, m11) =>
some ((v10, m11))
theorem hy_X2_mostAlike : zHy yX2_mostAlike 2 := ⟨by decide, by decide, by decide +kernel⟩
set_option maxHeartbeats 4000000 in
theorem ok_X2_mostAlike (l : Launch) (g : zGd) (m : zMm) (a0 : Option Nat) (a1 : Int32) (a2 : Int32) (z0 : Int32) (m0 : zMm) (h : f_X2_mostAlike g m a0 a1 a2 = some (z0, m0)) : zCT l yX2_mostAlike cX2_mostAlike 6 (some .int) 4 88 g m [va_rf a0, .int a1, .int a2] (some (.int z0)) g m0 := by
  refine zCT.of (own := "QuiverKinModel") (mn := "mostAlike") (by decide +kernel) rfl rfl (zla_r (zla_i (zla_i zla_0))) (zls_r (zls_i (zls_i zls_0))) (by decide) (fun X hxl hxg hxf hxt hxr hxn => ?_)
  have Kret : ∀ (y0 : Int32) (y1 : zMm), (y0, y1) = (z0, m0) → zRe X g y1 (some (.int y0)) := by
    intro y0 y1 e; cases e; exact ⟨hxf, hxr, hxn⟩
  subst hxl
  show zG X cX2_mostAlike 6 "QuiverKinModel" "mostAlike" 4 88 0 [(0, va_rf a0), (1, .int a1), (2, .int a2)] [] g m
  unfold f_X2_mostAlike at h
  refine g_iconst (v := (0 : Int32)) dX2_mostAlike_0 (by decide) ?_
  refine g_istore_n [(3, .int (0 : Int32)), (0, va_rf a0), (1, .int a1), (2, .int a2)] dX2_mostAlike_1 (by decide) (zf_r (zf_i (zf_i zf_0))) rfl ?_
  obtain ⟨o1, h1, h2⟩ := zB_e h
  have K1 : ∀ (m2 : zMm), o1 = m2 → zG X cX2_mostAlike 6 "QuiverKinModel" "mostAlike" 4 88 21 [(0, va_rf a0), (1, .int a1), (2, .int a2)] [] g m2 := by
    intro m2 e
    rw [e] at h2
    have h := h2
    refine g_iconst (v := (0 : Int32)) dX2_mostAlike_21 (by decide) ?_
    refine g_istore_n [(3, .int (0 : Int32)), (0, va_rf a0), (1, .int a1), (2, .int a2)] dX2_mostAlike_22 (by decide) (zf_r (zf_i (zf_i zf_0))) rfl ?_
    refine g_iconst (v := (0 : Int32)) dX2_mostAlike_23 (by decide) ?_
    refine g_istore [(4, .int (0 : Int32)), (3, .int (0 : Int32)), (0, va_rf a0), (1, .int a1), (2, .int a2)] dX2_mostAlike_24 (by decide) (zf_i (zf_r (zf_i (zf_i zf_0)))) rfl ?_
    obtain ⟨o9, h1, h2⟩ := zB_e h
    have K9 : ∀ (v10 : Int32) (m11 : zMm), o9 = (v10, m11) → zG X cX2_mostAlike 6 "QuiverKinModel" "mostAlike" 4 88 85 [(3, .int v10)] [] g m11 := by
      intro v10 m11 e
      rw [e] at h2
      have h := h2
      refine g_iload_n dX2_mostAlike_85 0 rfl ?_
      refine g_iret dX2_mostAlike_86 hxt ?_
      have e := Option.some.inj h
      exact Kret _ _ e
    refine zG.sub [2, 3, 4, 1, 0] rfl ?_
    refine zLoop_ok (Φ := (fun (q : Int32 × Int32 × zMm) => match q with | (v13, v14, m15) => zG X cX2_mostAlike 6 "QuiverKinModel" "mostAlike" 4 88 26 [(0, va_rf a0), (1, .int a1), (2, .int a2), (3, .int v13), (4, .int v14)] [] g m15)) o9 ?_ zFuel _ h1
    rintro ⟨v13, v14, m15⟩ x12 h hl12 hr12
    unfold b_X2_mostAlike_26 at h
    have K12 : ∀ (v13 : Int32) (v14 : Int32) (m15 : zMm), x12 = .inr (v13, v14, m15) → zG X cX2_mostAlike 6 "QuiverKinModel" "mostAlike" 4 88 26 [(0, va_rf a0), (1, .int a1), (2, .int a2), (3, .int v13), (4, .int v14)] [] g m15 := by
      intro v13 v14 m15 e
      exact hr12 _ e
    show zG X cX2_mostAlike 6 "QuiverKinModel" "mostAlike" 4 88 26 [(0, va_rf a0), (1, .int a1), (2, .int a2), (3, .int v13), (4, .int v14)] [] g m15
    refine g_iload dX2_mostAlike_26 4 rfl ?_
    refine g_iload_n dX2_mostAlike_28 2 rfl ?_
    refine g_icmp_ge 85 dX2_mostAlike_29 (by decide) (fun c => ?_) (fun c => ?_)
    · have h := zite_p h c
      refine zG.sub [3] rfl ?_
      have e := Option.some.inj h
      have e := hl12 _ e.symm
      exact K9 _ _ e.symm
    · have h := zite_n h c
      refine g_iload_n dX2_mostAlike_32 1 rfl ?_
      refine g_aload_n dX2_mostAlike_33 0 rfl ?_
      refine gf_r zfd_2_36 q1446  (fun _ h9 => h9) dX2_mostAlike_34 h (fun r16 h => ?_)
      refine g_iload dX2_mostAlike_37 4 rfl ?_
      refine g_iald dX2_mostAlike_39 h (fun v17 h => ?_)
      refine g_cSRv (rv := fun x : Int32 => Value.int x) [.int a1, .int v17] (fun x0 e0 => ok_X2_answerOf (xl X) g m15 a1 v17 x0 e0) (lw_S q1973 q1974 q126 q1975) hy_X2_answerOf rfl ⟨by decide, by decide⟩ rfl zc_0 (by decide) dX2_mostAlike_40 h (fun v18 h => ?_)
      refine g_istore [(5, .int v18), (0, va_rf a0), (1, .int a1), (2, .int a2), (3, .int v13), (4, .int v14)] dX2_mostAlike_43 (by decide) (zf_r (zf_i (zf_i (zf_i (zf_i zf_0))))) rfl ?_
      refine g_aload_n dX2_mostAlike_45 1 rfl ?_
      refine gf_r zfd_2_37 q1447  (fun _ h9 => h9) dX2_mostAlike_46 h (fun r19 h => ?_)
      refine g_iload dX2_mostAlike_49 0 rfl ?_
      refine g_dup2 dX2_mostAlike_51 rfl (zcat_r _) ?_
      refine g_iald dX2_mostAlike_52 h (fun v20 h => ?_)
      refine g_iconst (v := (1 : Int32)) dX2_mostAlike_53 (by decide) ?_
      refine g_iadd dX2_mostAlike_54 ?_
      refine g_iast dX2_mostAlike_55 h (fun m21 h => ?_)
      refine g_aload_n dX2_mostAlike_56 1 rfl ?_
      refine gf_r zfd_2_37 q1447  (fun _ h9 => h9) dX2_mostAlike_57 h (fun r22 h => ?_)
      refine g_iload dX2_mostAlike_60 0 rfl ?_
      refine g_iald dX2_mostAlike_62 h (fun v23 h => ?_)
      refine g_iload_n dX2_mostAlike_63 4 rfl ?_
      refine g_icmp_le 77 dX2_mostAlike_64 (by decide) (fun c => ?_) (fun c => ?_)
      · have h := zite_p h c
        refine g_iload_n dX2_mostAlike_77 4 rfl ?_
        refine g_istore_n [(3, .int v13), (5, .int v18), (0, va_rf a0), (1, .int a1), (2, .int a2), (4, .int v14)] dX2_mostAlike_78 (by decide) (zf_i (zf_r (zf_i (zf_i (zf_i (zf_i zf_0)))))) rfl ?_
        refine g_iinc (v := (1 : Int32)) [(3, .int v13), (5, .int v18), (0, va_rf a0), (1, .int a1), (2, .int a2)] dX2_mostAlike_79 5 rfl (by decide) (by decide) (zf_i (zf_i (zf_r (zf_i (zf_i (zf_i zf_0)))))) rfl h (fun v24 h => ?_)
        refine g_goto 26 dX2_mostAlike_82 (by decide) ?_
        refine zG.sub [3, 4, 5, 1, 0] rfl ?_
        have e := Option.some.inj h
        exact K12 _ _ _ e.symm
      · have h := zite_n h c
        refine g_aload_n dX2_mostAlike_67 1 rfl ?_
        refine gf_r zfd_2_37 q1447  (fun _ h9 => h9) dX2_mostAlike_68 h (fun r25 h => ?_)
        refine g_iload dX2_mostAlike_71 0 rfl ?_
        refine g_iald dX2_mostAlike_73 h (fun v26 h => ?_)
        refine g_goto 78 dX2_mostAlike_74 (by decide) ?_
        refine g_istore_n [(3, .int v26), (5, .int v18), (0, va_rf a0), (1, .int a1), (2, .int a2), (4, .int v14)] dX2_mostAlike_78 (by decide) (zf_i (zf_r (zf_i (zf_i (zf_i (zf_i zf_0)))))) rfl ?_
        refine g_iinc (v := (1 : Int32)) [(3, .int v26), (5, .int v18), (0, va_rf a0), (1, .int a1), (2, .int a2)] dX2_mostAlike_79 5 rfl (by decide) (by decide) (zf_i (zf_i (zf_r (zf_i (zf_i (zf_i zf_0)))))) rfl h (fun v27 h => ?_)
        refine g_goto 26 dX2_mostAlike_82 (by decide) ?_
        refine zG.sub [3, 4, 5, 1, 0] rfl ?_
        have e := Option.some.inj h
        exact K12 _ _ _ e.symm
  refine zG.sub [1, 2, 3, 0] rfl ?_
  refine zLoop_ok (Φ := (fun (q : Int32 × zMm) => match q with | (v4, m5) => zG X cX2_mostAlike 6 "QuiverKinModel" "mostAlike" 4 88 2 [(0, va_rf a0), (1, .int a1), (2, .int a2), (3, .int v4)] [] g m5)) o1 ?_ zFuel _ h1
  rintro ⟨v4, m5⟩ x3 h hl3 hr3
  unfold b_X2_mostAlike_2 at h
  have K3 : ∀ (v4 : Int32) (m5 : zMm), x3 = .inr (v4, m5) → zG X cX2_mostAlike 6 "QuiverKinModel" "mostAlike" 4 88 2 [(0, va_rf a0), (1, .int a1), (2, .int a2), (3, .int v4)] [] g m5 := by
    intro v4 m5 e
    exact hr3 _ e
  show zG X cX2_mostAlike 6 "QuiverKinModel" "mostAlike" 4 88 2 [(0, va_rf a0), (1, .int a1), (2, .int a2), (3, .int v4)] [] g m5
  refine g_iload_n dX2_mostAlike_2 3 rfl ?_
  refine g_bipush (v := (31 : Int32)) dX2_mostAlike_3 (by decide) ?_
  refine g_icmp_ge 21 dX2_mostAlike_5 (by decide) (fun c => ?_) (fun c => ?_)
  · have h := zite_p h c
    refine zG.sub [0, 1, 2] rfl ?_
    have e := Option.some.inj h
    have e := hl3 _ e.symm
    exact K1 _ e.symm
  · have h := zite_n h c
    refine g_aload_n dX2_mostAlike_8 0 rfl ?_
    refine gf_r zfd_2_37 q1447  (fun _ h9 => h9) dX2_mostAlike_9 h (fun r6 h => ?_)
    refine g_iload_n dX2_mostAlike_12 3 rfl ?_
    refine g_iconst (v := (0 : Int32)) dX2_mostAlike_13 (by decide) ?_
    refine g_iast dX2_mostAlike_14 h (fun m7 h => ?_)
    refine g_iinc (v := (1 : Int32)) [(0, va_rf a0), (1, .int a1), (2, .int a2)] dX2_mostAlike_15 3 rfl (by decide) (by decide) (zf_r (zf_i (zf_i (zf_i zf_0)))) rfl h (fun v8 h => ?_)
    refine g_goto 2 dX2_mostAlike_18 (by decide) ?_
    refine zG.sub [1, 2, 3, 0] rfl ?_
    have e := Option.some.inj h
    exact K3 _ _ e.symm
/-! QuiverKinModel.ask -/
def b_X2_ask_21 (g : zGd) (a0 : Option Nat) (v1 : Int32) : Int32 × Int32 × Int32 × zMm → Option ((Int32 × zMm) ⊕ (Int32 × Int32 × Int32 × zMm)) := fun (v7, v8, v9, m10) =>
if (125 : Int32) ≤ v9 then (some (.inl ((v7, m10))))
else ((zrc g 2 a0 (f_X2_mostAlike g m10 a0 v9 v1)).bind fun (v11, m12) =>
(zrc g 2 a0 (f_X2_isFitting g m12 a0 v9 v1)).bind fun v13 =>
((if v13 = 0 then (some ((1 : Int32)))
else (some ((0 : Int32))) : Option (Int32))).bind fun v15 =>
zlt (((2 : Int32) * v11) + v15) fun v16 =>
if v16 < v8 then (zlt (v9 + (1 : Int32)) fun v17 =>
some (.inr (v9, v16, v17, m12)))
else (zlt (v9 + (1 : Int32)) fun v18 =>
some (.inr (v7, v8, v18, m12))))
def f_X2_ask (g : zGd) (m : zMm) (a0 : Option Nat) : Option (Int32 × zMm) :=
(zrc g 2 a0 (f_X2_layFits g m a0)).bind fun (v1, m2) =>
if (2 : Int32) ≤ v1 then ((zLoop (b_X2_ask_21 g a0 v1) zFuel ((-1 : Int32), (1000000 : Int32), (0 : Int32), m2)).bind fun (v4, m5) =>
some ((v4, m5)))
else (some (((-1 : Int32), m2)))
theorem hy_X2_ask : zHy yX2_ask 0 := ⟨by decide, by decide, by decide +kernel⟩
set_option maxHeartbeats 4000000 in
theorem ok_X2_ask (l : Launch) (g : zGd) (m : zMm) (a0 : Option Nat) (z0 : Int32) (m0 : zMm) (h : f_X2_ask g m a0 = some (z0, m0)) : zCT l yX2_ask cX2_ask 6 (some .int) 5 113 g m [va_rf a0] (some (.int z0)) g m0 := by
  refine zCT.of (own := "QuiverKinModel") (mn := "ask") (by decide +kernel) rfl rfl (zla_r zla_0) (zls_r zls_0) (by decide) (fun X hxl hxg hxf hxt hxr hxn => ?_)
  have Kret : ∀ (y0 : Int32) (y1 : zMm), (y0, y1) = (z0, m0) → zRe X g y1 (some (.int y0)) := by
    intro y0 y1 e; cases e; exact ⟨hxf, hxr, hxn⟩
  subst hxl
  show zG X cX2_ask 6 "QuiverKinModel" "ask" 5 113 0 [(0, va_rf a0)] [] g m
  unfold f_X2_ask at h
  refine g_aload_n dX2_ask_0 0 rfl ?_
  refine g_cVMv (rv := fun x : Int32 => Value.int x) [] (fun x0 m0 e0 => ok_X2_layFits (xl X) g m a0 x0 m0 e0) zc2 (by decide) (lw_V q1986 q1988 qs112 q126 q1989) rfl hy_X2_layFits rfl ⟨by decide, by decide⟩ rfl zc_0 (by decide) dX2_ask_1 h (fun v1 m2 h => ?_)
  refine g_istore_n [(1, .int v1), (0, va_rf a0)] dX2_ask_4 (by decide) (zf_r zf_0) rfl ?_
  refine g_iload_n dX2_ask_5 0 rfl ?_
  refine g_iconst (v := (2 : Int32)) dX2_ask_6 (by decide) ?_
  refine g_icmp_ge 12 dX2_ask_7 (by decide) (fun c => ?_) (fun c => ?_)
  · have h := zite_p h c
    refine g_iconst (v := (-1 : Int32)) dX2_ask_12 (by decide) ?_
    refine g_istore_n [(2, .int (-1 : Int32)), (1, .int v1), (0, va_rf a0)] dX2_ask_13 (by decide) (zf_i (zf_r zf_0)) rfl ?_
    refine g_ldcw (v := (1000000 : Int32)) q1898 dX2_ask_14 ?_
    refine g_istore_n [(3, .int (1000000 : Int32)), (2, .int (-1 : Int32)), (1, .int v1), (0, va_rf a0)] dX2_ask_17 (by decide) (zf_i (zf_i (zf_r zf_0))) rfl ?_
    refine g_iconst (v := (0 : Int32)) dX2_ask_18 (by decide) ?_
    refine g_istore [(4, .int (0 : Int32)), (3, .int (1000000 : Int32)), (2, .int (-1 : Int32)), (1, .int v1), (0, va_rf a0)] dX2_ask_19 (by decide) (zf_i (zf_i (zf_i (zf_r zf_0)))) rfl ?_
    obtain ⟨o3, h1, h2⟩ := zB_e h
    have K3 : ∀ (v4 : Int32) (m5 : zMm), o3 = (v4, m5) → zG X cX2_ask 6 "QuiverKinModel" "ask" 5 113 76 [(2, .int v4)] [] g m5 := by
      intro v4 m5 e
      rw [e] at h2
      have h := h2
      refine g_iload_n dX2_ask_76 0 rfl ?_
      refine g_iret dX2_ask_77 hxt ?_
      have e := Option.some.inj h
      exact Kret _ _ e
    refine zG.sub [4, 3, 2, 1, 0] rfl ?_
    refine zLoop_ok (Φ := (fun (q : Int32 × Int32 × Int32 × zMm) => match q with | (v7, v8, v9, m10) => zG X cX2_ask 6 "QuiverKinModel" "ask" 5 113 21 [(0, va_rf a0), (1, .int v1), (2, .int v7), (3, .int v8), (4, .int v9)] [] g m10)) o3 ?_ zFuel _ h1
    rintro ⟨v7, v8, v9, m10⟩ x6 h hl6 hr6
    unfold b_X2_ask_21 at h
    have K6 : ∀ (v7 : Int32) (v8 : Int32) (v9 : Int32) (m10 : zMm), x6 = .inr (v7, v8, v9, m10) → zG X cX2_ask 6 "QuiverKinModel" "ask" 5 113 21 [(0, va_rf a0), (1, .int v1), (2, .int v7), (3, .int v8), (4, .int v9)] [] g m10 := by
      intro v7 v8 v9 m10 e
      exact hr6 _ e
    show zG X cX2_ask 6 "QuiverKinModel" "ask" 5 113 21 [(0, va_rf a0), (1, .int v1), (2, .int v7), (3, .int v8), (4, .int v9)] [] g m10
    refine g_iload dX2_ask_21 4 rfl ?_
    refine g_bipush (v := (125 : Int32)) dX2_ask_23 (by decide) ?_
    refine g_icmp_ge 76 dX2_ask_25 (by decide) (fun c => ?_) (fun c => ?_)
    · have h := zite_p h c
      refine zG.sub [2] rfl ?_
      have e := Option.some.inj h
      have e := hl6 _ e.symm
      exact K3 _ _ e.symm
    · have h := zite_n h c
      refine g_iconst (v := (2 : Int32)) dX2_ask_28 (by decide) ?_
      refine g_aload_n dX2_ask_29 0 rfl ?_
      refine g_iload dX2_ask_30 4 rfl ?_
      refine g_iload_n dX2_ask_32 1 rfl ?_
      refine g_cVMv (rv := fun x : Int32 => Value.int x) [.int v9, .int v1] (fun x0 m0 e0 => ok_X2_mostAlike (xl X) g m10 a0 v9 v1 x0 m0 e0) zc2 (by decide) (lw_V q1998 q2000 qs113 q126 q2001) rfl hy_X2_mostAlike rfl ⟨by decide, by decide⟩ rfl (zc_i zc_0) (by decide) dX2_ask_33 h (fun v11 m12 h => ?_)
      refine g_imul dX2_ask_36 ?_
      refine g_aload_n dX2_ask_37 0 rfl ?_
      refine g_iload dX2_ask_38 4 rfl ?_
      refine g_iload_n dX2_ask_40 1 rfl ?_
      refine g_cVRv (rv := fun x : Int32 => Value.int x) [.int v9, .int v1] (fun x0 e0 => ok_X2_isFitting (xl X) g m12 a0 v9 v1 x0 e0) zc2 (by decide) (lw_V q2002 q2004 qs114 q126 q2005) rfl hy_X2_isFitting rfl ⟨by decide, by decide⟩ rfl (zc_i zc_0) (by decide) dX2_ask_41 h (fun v13 h => ?_)
      obtain ⟨o14, h1, h2⟩ := zB_e h
      have K14 : ∀ (v15 : Int32), o14 = v15 → zG X cX2_ask 6 "QuiverKinModel" "ask" 5 113 52 [(0, va_rf a0), (1, .int v1), (2, .int v7), (3, .int v8), (4, .int v9)] [.int v15, .int ((2 : Int32) * v11)] g m12 := by
        intro v15 e
        rw [e] at h2
        have h := h2
        refine g_iadd dX2_ask_52 ?_
        refine g_leti h (fun v16 h => ?_)
        refine g_istore [(5, .int v16), (0, va_rf a0), (1, .int v1), (2, .int v7), (3, .int v8), (4, .int v9)] dX2_ask_53 (by decide) (zf_r (zf_i (zf_i (zf_i (zf_i zf_0))))) rfl ?_
        refine g_iload dX2_ask_55 0 rfl ?_
        refine g_iload_n dX2_ask_57 4 rfl ?_
        refine g_icmp_lt 64 dX2_ask_58 (by decide) (fun c => ?_) (fun c => ?_)
        · have h := zite_p h c
          refine g_iload dX2_ask_64 0 rfl ?_
          refine g_istore_n [(3, .int v16), (5, .int v16), (0, va_rf a0), (1, .int v1), (2, .int v7), (4, .int v9)] dX2_ask_66 (by decide) (zf_i (zf_r (zf_i (zf_i (zf_i (zf_i zf_0)))))) rfl ?_
          refine g_iload dX2_ask_67 5 rfl ?_
          refine g_istore_n [(2, .int v9), (3, .int v16), (5, .int v16), (0, va_rf a0), (1, .int v1), (4, .int v9)] dX2_ask_69 (by decide) (zf_i (zf_i (zf_r (zf_i (zf_i (zf_i zf_0)))))) rfl ?_
          refine g_iinc (v := (1 : Int32)) [(2, .int v9), (3, .int v16), (5, .int v16), (0, va_rf a0), (1, .int v1)] dX2_ask_70 5 rfl (by decide) (by decide) (zf_i (zf_i (zf_i (zf_r (zf_i (zf_i zf_0)))))) rfl h (fun v17 h => ?_)
          refine g_goto 21 dX2_ask_73 (by decide) ?_
          refine zG.sub [4, 5, 1, 2, 0] rfl ?_
          have e := Option.some.inj h
          exact K6 _ _ _ _ e.symm
        · have h := zite_n h c
          refine g_goto 70 dX2_ask_61 (by decide) ?_
          refine g_iinc (v := (1 : Int32)) [(5, .int v16), (0, va_rf a0), (1, .int v1), (2, .int v7), (3, .int v8)] dX2_ask_70 5 rfl (by decide) (by decide) (zf_i (zf_r (zf_i (zf_i (zf_i (zf_i zf_0)))))) rfl h (fun v18 h => ?_)
          refine g_goto 21 dX2_ask_73 (by decide) ?_
          refine zG.sub [2, 3, 4, 5, 0] rfl ?_
          have e := Option.some.inj h
          exact K6 _ _ _ _ e.symm
      have h := h1
      refine g_if_eq 51 dX2_ask_44 (by decide) (fun c => ?_) (fun c => ?_)
      · have h := zite_p h c
        refine g_iconst (v := (1 : Int32)) dX2_ask_51 (by decide) ?_
        refine zG.sub [0, 1, 2, 3, 4] rfl ?_
        have e := Option.some.inj h
        exact K14 _ e.symm
      · have h := zite_n h c
        refine g_iconst (v := (0 : Int32)) dX2_ask_47 (by decide) ?_
        refine g_goto 52 dX2_ask_48 (by decide) ?_
        refine zG.sub [0, 1, 2, 3, 4] rfl ?_
        have e := Option.some.inj h
        exact K14 _ e.symm
  · have h := zite_n h c
    refine g_iconst (v := (-1 : Int32)) dX2_ask_10 (by decide) ?_
    refine g_iret dX2_ask_11 hxt ?_
    have e := Option.some.inj h
    exact Kret _ _ e
/-! QuiverKinModel.gain -/
def f_X2_gain (g : zGd) (m : zMm) (a0 : Option Nat) (a1 : Int32) (a2 : Int32) (a3 : Int32) (a4 : Int32) : Option (Int32 × zMm) :=
(f_X2_isIn a1 (0 : Int32) (1 : Int32)).bind fun v1 =>
if v1 = 0 then (some (((0 : Int32), m)))
else ((f_X2_isIn a2 (0 : Int32) (1 : Int32)).bind fun v2 =>
if v2 = 0 then (some (((0 : Int32), m)))
else ((f_X2_isIn a3 (-99 : Int32) (99 : Int32)).bind fun v3 =>
if v3 = 0 then (some (((0 : Int32), m)))
else ((f_X2_isIn a4 (-99 : Int32) (99 : Int32)).bind fun v4 =>
if v4 = 0 then (some (((0 : Int32), m)))
else ((zgr g m 2 0 a0).bind fun r5 =>
(zast 101 g m r5 (((125 : Int32) + ((4 : Int32) * a1)) + ((2 : Int32) * a2)) a3).bind fun m6 =>
(zgr g m6 2 0 a0).bind fun r7 =>
(zast 101 g m6 r7 ((((125 : Int32) + ((4 : Int32) * a1)) + ((2 : Int32) * a2)) + (1 : Int32)) a4).bind fun m8 =>
some (((1 : Int32), m8))))))
theorem hy_X2_gain : zHy yX2_gain 4 := ⟨by decide, by decide, by decide +kernel⟩
set_option maxHeartbeats 4000000 in
theorem ok_X2_gain (l : Launch) (g : zGd) (m : zMm) (a0 : Option Nat) (a1 : Int32) (a2 : Int32) (a3 : Int32) (a4 : Int32) (z0 : Int32) (m0 : zMm) (h : f_X2_gain g m a0 a1 a2 a3 a4 = some (z0, m0)) : zCT l yX2_gain cX2_gain 5 (some .boolean) 2 42 g m [va_rf a0, .int a1, .int a2, .int a3, .int a4] (some (.int z0)) g m0 := by
  refine zCT.of (own := "QuiverKinModel") (mn := "gain") (by decide +kernel) rfl rfl (zla_r (zla_i (zla_i (zla_i (zla_i zla_0))))) (zls_r (zls_i (zls_i (zls_i (zls_i zls_0))))) (by decide) (fun X hxl hxg hxf hxt hxr hxn => ?_)
  have Kret : ∀ (y0 : Int32) (y1 : zMm), (y0, y1) = (z0, m0) → zRe X g y1 (some (.int y0)) := by
    intro y0 y1 e; cases e; exact ⟨hxf, hxr, hxn⟩
  subst hxl
  show zG X cX2_gain 5 "QuiverKinModel" "gain" 2 42 0 [(0, va_rf a0), (1, .int a1), (2, .int a2), (3, .int a3), (4, .int a4)] [] g m
  unfold f_X2_gain at h
  refine g_iload_n dX2_gain_0 1 rfl ?_
  refine g_iconst (v := (0 : Int32)) dX2_gain_1 (by decide) ?_
  refine g_iconst (v := (1 : Int32)) dX2_gain_2 (by decide) ?_
  refine g_cSRv (rv := fun x : Int32 => Value.int x) [.int a1, .int (0 : Int32), .int (1 : Int32)] (fun x0 e0 => ok_X2_isIn (xl X) g m a1 (0 : Int32) (1 : Int32) x0 e0) (lw_S q1534 q1535 q126 q1536) hy_X2_isIn rfl ⟨by decide, by decide⟩ rfl zc_0 (by decide) dX2_gain_3 h (fun v1 h => ?_)
  refine g_if_eq 41 dX2_gain_6 (by decide) (fun c => ?_) (fun c => ?_)
  · have h := zite_p h c
    refine g_iconst (v := (0 : Int32)) dX2_gain_41 (by decide) ?_
    refine g_zret dX2_gain_42 hxt rfl ?_
    have e := Option.some.inj h
    exact Kret _ _ e
  · have h := zite_n h c
    refine g_iload_n dX2_gain_9 2 rfl ?_
    refine g_iconst (v := (0 : Int32)) dX2_gain_10 (by decide) ?_
    refine g_iconst (v := (1 : Int32)) dX2_gain_11 (by decide) ?_
    refine g_cSRv (rv := fun x : Int32 => Value.int x) [.int a2, .int (0 : Int32), .int (1 : Int32)] (fun x0 e0 => ok_X2_isIn (xl X) g m a2 (0 : Int32) (1 : Int32) x0 e0) (lw_S q1534 q1535 q126 q1536) hy_X2_isIn rfl ⟨by decide, by decide⟩ rfl zc_0 (by decide) dX2_gain_12 h (fun v2 h => ?_)
    refine g_if_eq 41 dX2_gain_15 (by decide) (fun c => ?_) (fun c => ?_)
    · have h := zite_p h c
      refine g_iconst (v := (0 : Int32)) dX2_gain_41 (by decide) ?_
      refine g_zret dX2_gain_42 hxt rfl ?_
      have e := Option.some.inj h
      exact Kret _ _ e
    · have h := zite_n h c
      refine g_iload_n dX2_gain_18 3 rfl ?_
      refine g_bipush (v := (-99 : Int32)) dX2_gain_19 (by decide) ?_
      refine g_bipush (v := (99 : Int32)) dX2_gain_21 (by decide) ?_
      refine g_cSRv (rv := fun x : Int32 => Value.int x) [.int a3, .int (-99 : Int32), .int (99 : Int32)] (fun x0 e0 => ok_X2_isIn (xl X) g m a3 (-99 : Int32) (99 : Int32) x0 e0) (lw_S q1534 q1535 q126 q1536) hy_X2_isIn rfl ⟨by decide, by decide⟩ rfl zc_0 (by decide) dX2_gain_23 h (fun v3 h => ?_)
      refine g_if_eq 41 dX2_gain_26 (by decide) (fun c => ?_) (fun c => ?_)
      · have h := zite_p h c
        refine g_iconst (v := (0 : Int32)) dX2_gain_41 (by decide) ?_
        refine g_zret dX2_gain_42 hxt rfl ?_
        have e := Option.some.inj h
        exact Kret _ _ e
      · have h := zite_n h c
        refine g_iload dX2_gain_29 4 rfl ?_
        refine g_bipush (v := (-99 : Int32)) dX2_gain_31 (by decide) ?_
        refine g_bipush (v := (99 : Int32)) dX2_gain_33 (by decide) ?_
        refine g_cSRv (rv := fun x : Int32 => Value.int x) [.int a4, .int (-99 : Int32), .int (99 : Int32)] (fun x0 e0 => ok_X2_isIn (xl X) g m a4 (-99 : Int32) (99 : Int32) x0 e0) (lw_S q1534 q1535 q126 q1536) hy_X2_isIn rfl ⟨by decide, by decide⟩ rfl zc_0 (by decide) dX2_gain_35 h (fun v4 h => ?_)
        refine g_if_ne 43 dX2_gain_38 (by decide) (fun c => ?_) (fun c => ?_)
        · have h := zite_n h c
          refine g_aload_n dX2_gain_43 0 rfl ?_
          refine gf_r zfd_2_0 q1410  (fun _ h9 => h9) dX2_gain_44 h (fun r5 h => ?_)
          refine g_bipush (v := (125 : Int32)) dX2_gain_47 (by decide) ?_
          refine g_iconst (v := (4 : Int32)) dX2_gain_49 (by decide) ?_
          refine g_iload_n dX2_gain_50 1 rfl ?_
          refine g_imul dX2_gain_51 ?_
          refine g_iadd dX2_gain_52 ?_
          refine g_iconst (v := (2 : Int32)) dX2_gain_53 (by decide) ?_
          refine g_iload_n dX2_gain_54 2 rfl ?_
          refine g_imul dX2_gain_55 ?_
          refine g_iadd dX2_gain_56 ?_
          refine g_iload_n dX2_gain_57 3 rfl ?_
          refine g_iast dX2_gain_58 h (fun m6 h => ?_)
          refine g_aload_n dX2_gain_59 0 rfl ?_
          refine gf_r zfd_2_0 q1410  (fun _ h9 => h9) dX2_gain_60 h (fun r7 h => ?_)
          refine g_bipush (v := (125 : Int32)) dX2_gain_63 (by decide) ?_
          refine g_iconst (v := (4 : Int32)) dX2_gain_65 (by decide) ?_
          refine g_iload_n dX2_gain_66 1 rfl ?_
          refine g_imul dX2_gain_67 ?_
          refine g_iadd dX2_gain_68 ?_
          refine g_iconst (v := (2 : Int32)) dX2_gain_69 (by decide) ?_
          refine g_iload_n dX2_gain_70 2 rfl ?_
          refine g_imul dX2_gain_71 ?_
          refine g_iadd dX2_gain_72 ?_
          refine g_iconst (v := (1 : Int32)) dX2_gain_73 (by decide) ?_
          refine g_iadd dX2_gain_74 ?_
          refine g_iload dX2_gain_75 4 rfl ?_
          refine g_iast dX2_gain_77 h (fun m8 h => ?_)
          refine g_iconst (v := (1 : Int32)) dX2_gain_78 (by decide) ?_
          refine g_zret dX2_gain_79 hxt rfl ?_
          have e := Option.some.inj h
          exact Kret _ _ e
        · have h := zite_p h c
          refine g_iconst (v := (0 : Int32)) dX2_gain_41 (by decide) ?_
          refine g_zret dX2_gain_42 hxt rfl ?_
          have e := Option.some.inj h
          exact Kret _ _ e
/-! QuiverKinModel.gainOf -/
def f_X2_gainOf (g : zGd) (m : zMm) (a0 : Option Nat) (a1 : Int32) (a2 : Int32) (a3 : Int32) : Option (Int32) :=
(zgr g m 2 0 a0).bind fun r1 =>
(zald 101 g m r1 ((((125 : Int32) + ((4 : Int32) * a1)) + ((2 : Int32) * a2)) + a3)).bind fun v2 =>
some (v2)
theorem hy_X2_gainOf : zHy yX2_gainOf 3 := ⟨by decide, by decide, by decide +kernel⟩
set_option maxHeartbeats 4000000 in
theorem ok_X2_gainOf (l : Launch) (g : zGd) (m : zMm) (a0 : Option Nat) (a1 : Int32) (a2 : Int32) (a3 : Int32) (z0 : Int32) (h : f_X2_gainOf g m a0 a1 a2 a3 = some z0) : zCT l yX2_gainOf cX2_gainOf 4 (some .int) 1 20 g m [va_rf a0, .int a1, .int a2, .int a3] (some (.int z0)) g m := by
  refine zCT.of (own := "QuiverKinModel") (mn := "gainOf") (by decide +kernel) rfl rfl (zla_r (zla_i (zla_i (zla_i zla_0)))) (zls_r (zls_i (zls_i (zls_i zls_0)))) (by decide) (fun X hxl hxg hxf hxt hxr hxn => ?_)
  have Kret : ∀ (y0 : Int32), y0 = z0 → zRe X g m (some (.int y0)) := by
    intro y0 e; cases e; exact ⟨hxf, hxr, hxn⟩
  subst hxl
  show zG X cX2_gainOf 4 "QuiverKinModel" "gainOf" 1 20 0 [(0, va_rf a0), (1, .int a1), (2, .int a2), (3, .int a3)] [] g m
  unfold f_X2_gainOf at h
  refine g_aload_n dX2_gainOf_0 0 rfl ?_
  refine gf_r zfd_2_0 q1410  (fun _ h9 => h9) dX2_gainOf_1 h (fun r1 h => ?_)
  refine g_bipush (v := (125 : Int32)) dX2_gainOf_4 (by decide) ?_
  refine g_iconst (v := (4 : Int32)) dX2_gainOf_6 (by decide) ?_
  refine g_iload_n dX2_gainOf_7 1 rfl ?_
  refine g_imul dX2_gainOf_8 ?_
  refine g_iadd dX2_gainOf_9 ?_
  refine g_iconst (v := (2 : Int32)) dX2_gainOf_10 (by decide) ?_
  refine g_iload_n dX2_gainOf_11 2 rfl ?_
  refine g_imul dX2_gainOf_12 ?_
  refine g_iadd dX2_gainOf_13 ?_
  refine g_iload_n dX2_gainOf_14 3 rfl ?_
  refine g_iadd dX2_gainOf_15 ?_
  refine g_iald dX2_gainOf_16 h (fun v2 h => ?_)
  refine g_iret dX2_gainOf_17 hxt ?_
  have e := Option.some.inj h
  exact Kret _ e
/-! QuiverKinModel.rests -/
def b_X2_rests_4 (g : zGd) (m : zMm) (a0 : Option Nat) : Int32 × Int32 → Option ((Int32) ⊕ (Int32 × Int32)) := fun (v4, v5) =>
if (4 : Int32) ≤ v5 then (some (.inl v4))
else ((zrc g 2 a0 (f_X2_gainOf g m a0 (v5 / (2 : Int32)) (zrem v5 (2 : Int32)) (0 : Int32))).bind fun v6 =>
(zrc g 2 a0 (f_X2_gainOf g m a0 ((1 : Int32) - (v5 / (2 : Int32))) (zrem v5 (2 : Int32)) (0 : Int32))).bind fun v7 =>
if v6 < v7 then (zlt (v5 + (1 : Int32)) fun v8 =>
some (.inr (v4, v8)))
else ((zrc g 2 a0 (f_X2_gainOf g m a0 (v5 / (2 : Int32)) (zrem v5 (2 : Int32)) (1 : Int32))).bind fun v9 =>
(zrc g 2 a0 (f_X2_gainOf g m a0 (v5 / (2 : Int32)) ((1 : Int32) - (zrem v5 (2 : Int32))) (1 : Int32))).bind fun v10 =>
if v9 < v10 then (zlt (v5 + (1 : Int32)) fun v11 =>
some (.inr (v4, v11)))
else (zlt (v4 ||| (zshl (1 : Int32) v5)) fun v12 =>
zlt (v5 + (1 : Int32)) fun v13 =>
some (.inr (v12, v13)))))
def f_X2_rests (g : zGd) (m : zMm) (a0 : Option Nat) : Option (Int32) :=
(zLoop (b_X2_rests_4 g m a0) zFuel ((0 : Int32), (0 : Int32))).bind fun v2 =>
some (v2)
theorem hy_X2_rests : zHy yX2_rests 0 := ⟨by decide, by decide, by decide +kernel⟩
set_option maxHeartbeats 4000000 in
theorem ok_X2_rests (l : Launch) (g : zGd) (m : zMm) (a0 : Option Nat) (z0 : Int32) (h : f_X2_rests g m a0 = some z0) : zCT l yX2_rests cX2_rests 3 (some .int) 2 43 g m [va_rf a0] (some (.int z0)) g m := by
  refine zCT.of (own := "QuiverKinModel") (mn := "rests") (by decide +kernel) rfl rfl (zla_r zla_0) (zls_r zls_0) (by decide) (fun X hxl hxg hxf hxt hxr hxn => ?_)
  have Kret : ∀ (y0 : Int32), y0 = z0 → zRe X g m (some (.int y0)) := by
    intro y0 e; cases e; exact ⟨hxf, hxr, hxn⟩
  subst hxl
  show zG X cX2_rests 3 "QuiverKinModel" "rests" 2 43 0 [(0, va_rf a0)] [] g m
  unfold f_X2_rests at h
  refine g_iconst (v := (0 : Int32)) dX2_rests_0 (by decide) ?_
  refine g_istore_n [(1, .int (0 : Int32)), (0, va_rf a0)] dX2_rests_1 (by decide) (zf_r zf_0) rfl ?_
  refine g_iconst (v := (0 : Int32)) dX2_rests_2 (by decide) ?_
  refine g_istore_n [(2, .int (0 : Int32)), (1, .int (0 : Int32)), (0, va_rf a0)] dX2_rests_3 (by decide) (zf_i (zf_r zf_0)) rfl ?_
  obtain ⟨o1, h1, h2⟩ := zB_e h
  have K1 : ∀ (v2 : Int32), o1 = v2 → zG X cX2_rests 3 "QuiverKinModel" "rests" 2 43 75 [(1, .int v2)] [] g m := by
    intro v2 e
    rw [e] at h2
    have h := h2
    refine g_iload_n dX2_rests_75 0 rfl ?_
    refine g_iret dX2_rests_76 hxt ?_
    have e := Option.some.inj h
    exact Kret _ e
  refine zG.sub [2, 1, 0] rfl ?_
  refine zLoop_ok (Φ := (fun (q : Int32 × Int32) => match q with | (v4, v5) => zG X cX2_rests 3 "QuiverKinModel" "rests" 2 43 4 [(0, va_rf a0), (1, .int v4), (2, .int v5)] [] g m)) o1 ?_ zFuel _ h1
  rintro ⟨v4, v5⟩ x3 h hl3 hr3
  unfold b_X2_rests_4 at h
  have K3 : ∀ (v4 : Int32) (v5 : Int32), x3 = .inr (v4, v5) → zG X cX2_rests 3 "QuiverKinModel" "rests" 2 43 4 [(0, va_rf a0), (1, .int v4), (2, .int v5)] [] g m := by
    intro v4 v5 e
    exact hr3 _ e
  show zG X cX2_rests 3 "QuiverKinModel" "rests" 2 43 4 [(0, va_rf a0), (1, .int v4), (2, .int v5)] [] g m
  refine g_iload_n dX2_rests_4 2 rfl ?_
  refine g_iconst (v := (4 : Int32)) dX2_rests_5 (by decide) ?_
  refine g_icmp_ge 75 dX2_rests_6 (by decide) (fun c => ?_) (fun c => ?_)
  · have h := zite_p h c
    refine zG.sub [1] rfl ?_
    have e := Option.some.inj h
    have e := hl3 _ e.symm
    exact K1 _ e.symm
  · have h := zite_n h c
    refine g_aload_n dX2_rests_9 0 rfl ?_
    refine g_iload_n dX2_rests_10 2 rfl ?_
    refine g_iconst (v := (2 : Int32)) dX2_rests_11 (by decide) ?_
    refine g_idivC dX2_rests_12 (by decide) ?_
    refine g_iload_n dX2_rests_13 2 rfl ?_
    refine g_iconst (v := (2 : Int32)) dX2_rests_14 (by decide) ?_
    refine g_iremC dX2_rests_15 (by decide) ?_
    refine g_iconst (v := (0 : Int32)) dX2_rests_16 (by decide) ?_
    refine g_cVRv (rv := fun x : Int32 => Value.int x) [.int (v5 / (2 : Int32)), .int (zrem v5 (2 : Int32)), .int (0 : Int32)] (fun x0 e0 => ok_X2_gainOf (xl X) g m a0 (v5 / (2 : Int32)) (zrem v5 (2 : Int32)) (0 : Int32) x0 e0) zc2 (by decide) (lw_V q2014 q2016 qs115 q126 q2017) rfl hy_X2_gainOf rfl ⟨by decide, by decide⟩ rfl zc_0 (by decide) dX2_rests_17 h (fun v6 h => ?_)
    refine g_aload_n dX2_rests_20 0 rfl ?_
    refine g_iconst (v := (1 : Int32)) dX2_rests_21 (by decide) ?_
    refine g_iload_n dX2_rests_22 2 rfl ?_
    refine g_iconst (v := (2 : Int32)) dX2_rests_23 (by decide) ?_
    refine g_idivC dX2_rests_24 (by decide) ?_
    refine g_isub dX2_rests_25 ?_
    refine g_iload_n dX2_rests_26 2 rfl ?_
    refine g_iconst (v := (2 : Int32)) dX2_rests_27 (by decide) ?_
    refine g_iremC dX2_rests_28 (by decide) ?_
    refine g_iconst (v := (0 : Int32)) dX2_rests_29 (by decide) ?_
    refine g_cVRv (rv := fun x : Int32 => Value.int x) [.int ((1 : Int32) - (v5 / (2 : Int32))), .int (zrem v5 (2 : Int32)), .int (0 : Int32)] (fun x0 e0 => ok_X2_gainOf (xl X) g m a0 ((1 : Int32) - (v5 / (2 : Int32))) (zrem v5 (2 : Int32)) (0 : Int32) x0 e0) zc2 (by decide) (lw_V q2014 q2016 qs115 q126 q2017) rfl hy_X2_gainOf rfl ⟨by decide, by decide⟩ rfl (zc_i zc_0) (by decide) dX2_rests_30 h (fun v7 h => ?_)
    refine g_icmp_lt 69 dX2_rests_33 (by decide) (fun c => ?_) (fun c => ?_)
    · have h := zite_p h c
      refine g_iinc (v := (1 : Int32)) [(0, va_rf a0), (1, .int v4)] dX2_rests_69 2 rfl (by decide) (by decide) (zf_r (zf_i (zf_i zf_0))) rfl h (fun v8 h => ?_)
      refine g_goto 4 dX2_rests_72 (by decide) ?_
      refine zG.sub [1, 2, 0] rfl ?_
      have e := Option.some.inj h
      exact K3 _ _ e.symm
    · have h := zite_n h c
      refine g_aload_n dX2_rests_36 0 rfl ?_
      refine g_iload_n dX2_rests_37 2 rfl ?_
      refine g_iconst (v := (2 : Int32)) dX2_rests_38 (by decide) ?_
      refine g_idivC dX2_rests_39 (by decide) ?_
      refine g_iload_n dX2_rests_40 2 rfl ?_
      refine g_iconst (v := (2 : Int32)) dX2_rests_41 (by decide) ?_
      refine g_iremC dX2_rests_42 (by decide) ?_
      refine g_iconst (v := (1 : Int32)) dX2_rests_43 (by decide) ?_
      refine g_cVRv (rv := fun x : Int32 => Value.int x) [.int (v5 / (2 : Int32)), .int (zrem v5 (2 : Int32)), .int (1 : Int32)] (fun x0 e0 => ok_X2_gainOf (xl X) g m a0 (v5 / (2 : Int32)) (zrem v5 (2 : Int32)) (1 : Int32) x0 e0) zc2 (by decide) (lw_V q2014 q2016 qs115 q126 q2017) rfl hy_X2_gainOf rfl ⟨by decide, by decide⟩ rfl zc_0 (by decide) dX2_rests_44 h (fun v9 h => ?_)
      refine g_aload_n dX2_rests_47 0 rfl ?_
      refine g_iload_n dX2_rests_48 2 rfl ?_
      refine g_iconst (v := (2 : Int32)) dX2_rests_49 (by decide) ?_
      refine g_idivC dX2_rests_50 (by decide) ?_
      refine g_iconst (v := (1 : Int32)) dX2_rests_51 (by decide) ?_
      refine g_iload_n dX2_rests_52 2 rfl ?_
      refine g_iconst (v := (2 : Int32)) dX2_rests_53 (by decide) ?_
      refine g_iremC dX2_rests_54 (by decide) ?_
      refine g_isub dX2_rests_55 ?_
      refine g_iconst (v := (1 : Int32)) dX2_rests_56 (by decide) ?_
      refine g_cVRv (rv := fun x : Int32 => Value.int x) [.int (v5 / (2 : Int32)), .int ((1 : Int32) - (zrem v5 (2 : Int32))), .int (1 : Int32)] (fun x0 e0 => ok_X2_gainOf (xl X) g m a0 (v5 / (2 : Int32)) ((1 : Int32) - (zrem v5 (2 : Int32))) (1 : Int32) x0 e0) zc2 (by decide) (lw_V q2014 q2016 qs115 q126 q2017) rfl hy_X2_gainOf rfl ⟨by decide, by decide⟩ rfl (zc_i zc_0) (by decide) dX2_rests_57 h (fun v10 h => ?_)
      refine g_icmp_lt 69 dX2_rests_60 (by decide) (fun c => ?_) (fun c => ?_)
      · have h := zite_p h c
        refine g_iinc (v := (1 : Int32)) [(0, va_rf a0), (1, .int v4)] dX2_rests_69 2 rfl (by decide) (by decide) (zf_r (zf_i (zf_i zf_0))) rfl h (fun v11 h => ?_)
        refine g_goto 4 dX2_rests_72 (by decide) ?_
        refine zG.sub [1, 2, 0] rfl ?_
        have e := Option.some.inj h
        exact K3 _ _ e.symm
      · have h := zite_n h c
        refine g_iload_n dX2_rests_63 1 rfl ?_
        refine g_iconst (v := (1 : Int32)) dX2_rests_64 (by decide) ?_
        refine g_iload_n dX2_rests_65 2 rfl ?_
        refine g_ishl dX2_rests_66 ?_
        refine g_ior dX2_rests_67 ?_
        refine g_leti h (fun v12 h => ?_)
        refine g_istore_n [(1, .int v12), (0, va_rf a0), (2, .int v5)] dX2_rests_68 (by decide) (zf_r (zf_i (zf_i zf_0))) rfl ?_
        refine g_iinc (v := (1 : Int32)) [(1, .int v12), (0, va_rf a0)] dX2_rests_69 2 rfl (by decide) (by decide) (zf_i (zf_r (zf_i zf_0))) rfl h (fun v13 h => ?_)
        refine g_goto 4 dX2_rests_72 (by decide) ?_
        refine zG.sub [2, 1, 0] rfl ?_
        have e := Option.some.inj h
        exact K3 _ _ e.symm
/-! QuiverKinModel.divisor -/
def b_X2_divisor_4  : Int32 × Int32 → Option ((Int32) ⊕ (Int32 × Int32)) := fun (v4, v5) =>
if v5 = 0 then (some (.inl v4))
else ((zmod v4 v5).bind fun v6 =>
some (.inr (v5, v6)))
def f_X2_divisor (a0 : Int32) (a1 : Int32) : Option (Int32) :=
(zLoop b_X2_divisor_4 zFuel (a0, a1)).bind fun v2 =>
if 0 ≤ v2 then (some (v2))
else (some ((-v2)))
theorem hy_X2_divisor : zHy yX2_divisor 2 := ⟨by decide, by decide, by decide +kernel⟩
set_option maxHeartbeats 4000000 in
theorem ok_X2_divisor (l : Launch) (g : zGd) (m : zMm) (a0 : Int32) (a1 : Int32) (z0 : Int32) (h : f_X2_divisor a0 a1 = some z0) : zCT l yX2_divisor cX2_divisor 5 (some .int) 1 20 g m [.int a0, .int a1] (some (.int z0)) g m := by
  refine zCT.of (own := "QuiverKinModel") (mn := "divisor") (by decide +kernel) rfl rfl (zla_i (zla_i zla_0)) (zls_i (zls_i zls_0)) (by decide) (fun X hxl hxg hxf hxt hxr hxn => ?_)
  have Kret : ∀ (y0 : Int32), y0 = z0 → zRe X g m (some (.int y0)) := by
    intro y0 e; cases e; exact ⟨hxf, hxr, hxn⟩
  subst hxl
  show zG X cX2_divisor 5 "QuiverKinModel" "divisor" 1 20 0 [(0, .int a0), (1, .int a1)] [] g m
  unfold f_X2_divisor at h
  refine g_iload_n dX2_divisor_0 0 rfl ?_
  refine g_istore_n [(2, .int a0), (0, .int a0), (1, .int a1)] dX2_divisor_1 (by decide) (zf_i (zf_i zf_0)) rfl ?_
  refine g_iload_n dX2_divisor_2 2 rfl ?_
  refine g_istore_n [(3, .int a1), (2, .int a0), (0, .int a0), (1, .int a1)] dX2_divisor_3 (by decide) (zf_i (zf_i (zf_i zf_0))) rfl ?_
  obtain ⟨o1, h1, h2⟩ := zB_e h
  have K1 : ∀ (v2 : Int32), o1 = v2 → zG X cX2_divisor 5 "QuiverKinModel" "divisor" 1 20 21 [(2, .int v2)] [] g m := by
    intro v2 e
    rw [e] at h2
    have h := h2
    refine g_iload_n dX2_divisor_21 0 rfl ?_
    refine g_if_ge 30 dX2_divisor_22 (by decide) (fun c => ?_) (fun c => ?_)
    · have h := zite_p h c
      refine g_iload_n dX2_divisor_30 0 rfl ?_
      refine g_iret dX2_divisor_31 hxt ?_
      have e := Option.some.inj h
      exact Kret _ e
    · have h := zite_n h c
      refine g_iload_n dX2_divisor_25 0 rfl ?_
      refine g_ineg dX2_divisor_26 ?_
      refine g_goto 31 dX2_divisor_27 (by decide) ?_
      refine g_iret dX2_divisor_31 hxt ?_
      have e := Option.some.inj h
      exact Kret _ e
  refine zG.sub [1, 0] rfl ?_
  refine zLoop_ok (Φ := (fun (q : Int32 × Int32) => match q with | (v4, v5) => zG X cX2_divisor 5 "QuiverKinModel" "divisor" 1 20 4 [(2, .int v4), (3, .int v5)] [] g m)) o1 ?_ zFuel _ h1
  rintro ⟨v4, v5⟩ x3 h hl3 hr3
  unfold b_X2_divisor_4 at h
  have K3 : ∀ (v4 : Int32) (v5 : Int32), x3 = .inr (v4, v5) → zG X cX2_divisor 5 "QuiverKinModel" "divisor" 1 20 4 [(2, .int v4), (3, .int v5)] [] g m := by
    intro v4 v5 e
    exact hr3 _ e
  show zG X cX2_divisor 5 "QuiverKinModel" "divisor" 1 20 4 [(2, .int v4), (3, .int v5)] [] g m
  refine g_iload_n dX2_divisor_4 1 rfl ?_
  refine g_if_eq 21 dX2_divisor_5 (by decide) (fun c => ?_) (fun c => ?_)
  · have h := zite_p h c
    refine zG.sub [0] rfl ?_
    have e := Option.some.inj h
    have e := hl3 _ e.symm
    exact K1 _ e.symm
  · have h := zite_n h c
    refine g_iload_n dX2_divisor_8 0 rfl ?_
    refine g_iload_n dX2_divisor_9 1 rfl ?_
    refine g_irem dX2_divisor_10 h (fun v6 h => ?_)
    refine g_istore [(4, .int v6), (2, .int v4), (3, .int v5)] dX2_divisor_11 (by decide) (zf_i (zf_i zf_0)) rfl ?_
    refine g_iload_n dX2_divisor_13 2 rfl ?_
    refine g_istore_n [(2, .int v5), (4, .int v6), (3, .int v5)] dX2_divisor_14 (by decide) (zf_i (zf_i (zf_i zf_0))) rfl ?_
    refine g_iload dX2_divisor_15 1 rfl ?_
    refine g_istore_n [(3, .int v6), (2, .int v5), (4, .int v6)] dX2_divisor_17 (by decide) (zf_i (zf_i (zf_i zf_0))) rfl ?_
    refine g_goto 4 dX2_divisor_18 (by decide) ?_
    refine zG.sub [1, 0] rfl ?_
    have e := Option.some.inj h
    exact K3 _ _ e.symm
/-! QuiverKinModel.upOf -/
def f_X2_upOf (g : zGd) (m : zMm) (a0 : Option Nat) (a1 : Int32) : Option (Int32) :=
if a1 = 0 then ((zrc g 2 a0 (f_X2_gainOf g m a0 (1 : Int32) (0 : Int32) (0 : Int32))).bind fun v1 =>
(zrc g 2 a0 (f_X2_gainOf g m a0 (0 : Int32) (0 : Int32) (0 : Int32))).bind fun v2 =>
some ((v1 - v2)))
else ((zrc g 2 a0 (f_X2_gainOf g m a0 (0 : Int32) (1 : Int32) (1 : Int32))).bind fun v3 =>
(zrc g 2 a0 (f_X2_gainOf g m a0 (0 : Int32) (0 : Int32) (1 : Int32))).bind fun v4 =>
some ((v3 - v4)))
theorem hy_X2_upOf : zHy yX2_upOf 1 := ⟨by decide, by decide, by decide +kernel⟩
set_option maxHeartbeats 4000000 in
theorem ok_X2_upOf (l : Launch) (g : zGd) (m : zMm) (a0 : Option Nat) (a1 : Int32) (z0 : Int32) (h : f_X2_upOf g m a0 a1 = some z0) : zCT l yX2_upOf cX2_upOf 2 (some .int) 2 43 g m [va_rf a0, .int a1] (some (.int z0)) g m := by
  refine zCT.of (own := "QuiverKinModel") (mn := "upOf") (by decide +kernel) rfl rfl (zla_r (zla_i zla_0)) (zls_r (zls_i zls_0)) (by decide) (fun X hxl hxg hxf hxt hxr hxn => ?_)
  have Kret : ∀ (y0 : Int32), y0 = z0 → zRe X g m (some (.int y0)) := by
    intro y0 e; cases e; exact ⟨hxf, hxr, hxn⟩
  subst hxl
  show zG X cX2_upOf 2 "QuiverKinModel" "upOf" 2 43 0 [(0, va_rf a0), (1, .int a1)] [] g m
  unfold f_X2_upOf at h
  refine g_iload_n dX2_upOf_0 1 rfl ?_
  refine g_if_eq 22 dX2_upOf_1 (by decide) (fun c => ?_) (fun c => ?_)
  · have h := zite_p h c
    refine g_aload_n dX2_upOf_22 0 rfl ?_
    refine g_iconst (v := (1 : Int32)) dX2_upOf_23 (by decide) ?_
    refine g_iconst (v := (0 : Int32)) dX2_upOf_24 (by decide) ?_
    refine g_iconst (v := (0 : Int32)) dX2_upOf_25 (by decide) ?_
    refine g_cVRv (rv := fun x : Int32 => Value.int x) [.int (1 : Int32), .int (0 : Int32), .int (0 : Int32)] (fun x0 e0 => ok_X2_gainOf (xl X) g m a0 (1 : Int32) (0 : Int32) (0 : Int32) x0 e0) zc2 (by decide) (lw_V q2014 q2016 qs115 q126 q2017) rfl hy_X2_gainOf rfl ⟨by decide, by decide⟩ rfl zc_0 (by decide) dX2_upOf_26 h (fun v1 h => ?_)
    refine g_aload_n dX2_upOf_29 0 rfl ?_
    refine g_iconst (v := (0 : Int32)) dX2_upOf_30 (by decide) ?_
    refine g_iconst (v := (0 : Int32)) dX2_upOf_31 (by decide) ?_
    refine g_iconst (v := (0 : Int32)) dX2_upOf_32 (by decide) ?_
    refine g_cVRv (rv := fun x : Int32 => Value.int x) [.int (0 : Int32), .int (0 : Int32), .int (0 : Int32)] (fun x0 e0 => ok_X2_gainOf (xl X) g m a0 (0 : Int32) (0 : Int32) (0 : Int32) x0 e0) zc2 (by decide) (lw_V q2014 q2016 qs115 q126 q2017) rfl hy_X2_gainOf rfl ⟨by decide, by decide⟩ rfl (zc_i zc_0) (by decide) dX2_upOf_33 h (fun v2 h => ?_)
    refine g_isub dX2_upOf_36 ?_
    refine g_iret dX2_upOf_37 hxt ?_
    have e := Option.some.inj h
    exact Kret _ e
  · have h := zite_n h c
    refine g_aload_n dX2_upOf_4 0 rfl ?_
    refine g_iconst (v := (0 : Int32)) dX2_upOf_5 (by decide) ?_
    refine g_iconst (v := (1 : Int32)) dX2_upOf_6 (by decide) ?_
    refine g_iconst (v := (1 : Int32)) dX2_upOf_7 (by decide) ?_
    refine g_cVRv (rv := fun x : Int32 => Value.int x) [.int (0 : Int32), .int (1 : Int32), .int (1 : Int32)] (fun x0 e0 => ok_X2_gainOf (xl X) g m a0 (0 : Int32) (1 : Int32) (1 : Int32) x0 e0) zc2 (by decide) (lw_V q2014 q2016 qs115 q126 q2017) rfl hy_X2_gainOf rfl ⟨by decide, by decide⟩ rfl zc_0 (by decide) dX2_upOf_8 h (fun v3 h => ?_)
    refine g_aload_n dX2_upOf_11 0 rfl ?_
    refine g_iconst (v := (0 : Int32)) dX2_upOf_12 (by decide) ?_
    refine g_iconst (v := (0 : Int32)) dX2_upOf_13 (by decide) ?_
    refine g_iconst (v := (1 : Int32)) dX2_upOf_14 (by decide) ?_
    refine g_cVRv (rv := fun x : Int32 => Value.int x) [.int (0 : Int32), .int (0 : Int32), .int (1 : Int32)] (fun x0 e0 => ok_X2_gainOf (xl X) g m a0 (0 : Int32) (0 : Int32) (1 : Int32) x0 e0) zc2 (by decide) (lw_V q2014 q2016 qs115 q126 q2017) rfl hy_X2_gainOf rfl ⟨by decide, by decide⟩ rfl (zc_i zc_0) (by decide) dX2_upOf_15 h (fun v4 h => ?_)
    refine g_isub dX2_upOf_18 ?_
    refine g_goto 37 dX2_upOf_19 (by decide) ?_
    refine g_iret dX2_upOf_37 hxt ?_
    have e := Option.some.inj h
    exact Kret _ e
/-! QuiverKinModel.lowOf -/
def f_X2_lowOf (g : zGd) (m : zMm) (a0 : Option Nat) (a1 : Int32) : Option (Int32) :=
(zrc g 2 a0 (f_X2_upOf g m a0 a1)).bind fun v1 =>
if a1 = 0 then ((zrc g 2 a0 (f_X2_gainOf g m a0 (0 : Int32) (1 : Int32) (0 : Int32))).bind fun v2 =>
(zrc g 2 a0 (f_X2_gainOf g m a0 (1 : Int32) (1 : Int32) (0 : Int32))).bind fun v3 =>
some ((v1 + (v2 - v3))))
else ((zrc g 2 a0 (f_X2_gainOf g m a0 (1 : Int32) (0 : Int32) (1 : Int32))).bind fun v4 =>
(zrc g 2 a0 (f_X2_gainOf g m a0 (1 : Int32) (1 : Int32) (1 : Int32))).bind fun v5 =>
some ((v1 + (v4 - v5))))
theorem hy_X2_lowOf : zHy yX2_lowOf 1 := ⟨by decide, by decide, by decide +kernel⟩
set_option maxHeartbeats 4000000 in
theorem ok_X2_lowOf (l : Launch) (g : zGd) (m : zMm) (a0 : Option Nat) (a1 : Int32) (z0 : Int32) (h : f_X2_lowOf g m a0 a1 = some z0) : zCT l yX2_lowOf cX2_lowOf 2 (some .int) 3 64 g m [va_rf a0, .int a1] (some (.int z0)) g m := by
  refine zCT.of (own := "QuiverKinModel") (mn := "lowOf") (by decide +kernel) rfl rfl (zla_r (zla_i zla_0)) (zls_r (zls_i zls_0)) (by decide) (fun X hxl hxg hxf hxt hxr hxn => ?_)
  have Kret : ∀ (y0 : Int32), y0 = z0 → zRe X g m (some (.int y0)) := by
    intro y0 e; cases e; exact ⟨hxf, hxr, hxn⟩
  subst hxl
  show zG X cX2_lowOf 2 "QuiverKinModel" "lowOf" 3 64 0 [(0, va_rf a0), (1, .int a1)] [] g m
  unfold f_X2_lowOf at h
  refine g_aload_n dX2_lowOf_0 0 rfl ?_
  refine g_iload_n dX2_lowOf_1 1 rfl ?_
  refine g_cVRv (rv := fun x : Int32 => Value.int x) [.int a1] (fun x0 e0 => ok_X2_upOf (xl X) g m a0 a1 x0 e0) zc2 (by decide) (lw_V q2030 q2032 qs118 q126 q2033) rfl hy_X2_upOf rfl ⟨by decide, by decide⟩ rfl zc_0 (by decide) dX2_lowOf_2 h (fun v1 h => ?_)
  refine g_iload_n dX2_lowOf_5 1 rfl ?_
  refine g_if_eq 27 dX2_lowOf_6 (by decide) (fun c => ?_) (fun c => ?_)
  · have h := zite_p h c
    refine g_aload_n dX2_lowOf_27 0 rfl ?_
    refine g_iconst (v := (0 : Int32)) dX2_lowOf_28 (by decide) ?_
    refine g_iconst (v := (1 : Int32)) dX2_lowOf_29 (by decide) ?_
    refine g_iconst (v := (0 : Int32)) dX2_lowOf_30 (by decide) ?_
    refine g_cVRv (rv := fun x : Int32 => Value.int x) [.int (0 : Int32), .int (1 : Int32), .int (0 : Int32)] (fun x0 e0 => ok_X2_gainOf (xl X) g m a0 (0 : Int32) (1 : Int32) (0 : Int32) x0 e0) zc2 (by decide) (lw_V q2014 q2016 qs115 q126 q2017) rfl hy_X2_gainOf rfl ⟨by decide, by decide⟩ rfl (zc_i zc_0) (by decide) dX2_lowOf_31 h (fun v2 h => ?_)
    refine g_aload_n dX2_lowOf_34 0 rfl ?_
    refine g_iconst (v := (1 : Int32)) dX2_lowOf_35 (by decide) ?_
    refine g_iconst (v := (1 : Int32)) dX2_lowOf_36 (by decide) ?_
    refine g_iconst (v := (0 : Int32)) dX2_lowOf_37 (by decide) ?_
    refine g_cVRv (rv := fun x : Int32 => Value.int x) [.int (1 : Int32), .int (1 : Int32), .int (0 : Int32)] (fun x0 e0 => ok_X2_gainOf (xl X) g m a0 (1 : Int32) (1 : Int32) (0 : Int32) x0 e0) zc2 (by decide) (lw_V q2014 q2016 qs115 q126 q2017) rfl hy_X2_gainOf rfl ⟨by decide, by decide⟩ rfl (zc_i (zc_i zc_0)) (by decide) dX2_lowOf_38 h (fun v3 h => ?_)
    refine g_isub dX2_lowOf_41 ?_
    refine g_iadd dX2_lowOf_42 ?_
    refine g_iret dX2_lowOf_43 hxt ?_
    have e := Option.some.inj h
    exact Kret _ e
  · have h := zite_n h c
    refine g_aload_n dX2_lowOf_9 0 rfl ?_
    refine g_iconst (v := (1 : Int32)) dX2_lowOf_10 (by decide) ?_
    refine g_iconst (v := (0 : Int32)) dX2_lowOf_11 (by decide) ?_
    refine g_iconst (v := (1 : Int32)) dX2_lowOf_12 (by decide) ?_
    refine g_cVRv (rv := fun x : Int32 => Value.int x) [.int (1 : Int32), .int (0 : Int32), .int (1 : Int32)] (fun x0 e0 => ok_X2_gainOf (xl X) g m a0 (1 : Int32) (0 : Int32) (1 : Int32) x0 e0) zc2 (by decide) (lw_V q2014 q2016 qs115 q126 q2017) rfl hy_X2_gainOf rfl ⟨by decide, by decide⟩ rfl (zc_i zc_0) (by decide) dX2_lowOf_13 h (fun v4 h => ?_)
    refine g_aload_n dX2_lowOf_16 0 rfl ?_
    refine g_iconst (v := (1 : Int32)) dX2_lowOf_17 (by decide) ?_
    refine g_iconst (v := (1 : Int32)) dX2_lowOf_18 (by decide) ?_
    refine g_iconst (v := (1 : Int32)) dX2_lowOf_19 (by decide) ?_
    refine g_cVRv (rv := fun x : Int32 => Value.int x) [.int (1 : Int32), .int (1 : Int32), .int (1 : Int32)] (fun x0 e0 => ok_X2_gainOf (xl X) g m a0 (1 : Int32) (1 : Int32) (1 : Int32) x0 e0) zc2 (by decide) (lw_V q2014 q2016 qs115 q126 q2017) rfl hy_X2_gainOf rfl ⟨by decide, by decide⟩ rfl (zc_i (zc_i zc_0)) (by decide) dX2_lowOf_20 h (fun v5 h => ?_)
    refine g_isub dX2_lowOf_23 ?_
    refine g_goto 42 dX2_lowOf_24 (by decide) ?_
    refine g_iadd dX2_lowOf_42 ?_
    refine g_iret dX2_lowOf_43 hxt ?_
    have e := Option.some.inj h
    exact Kret _ e
/-! QuiverKinModel.isBetween -/
def f_X2_isBetween (g : zGd) (m : zMm) (a0 : Option Nat) (a1 : Int32) : Option (Int32) :=
(zrc g 2 a0 (f_X2_lowOf g m a0 a1)).bind fun v1 =>
if v1 ≤ 0 then ((zrc g 2 a0 (f_X2_upOf g m a0 a1)).bind fun v2 =>
(zrc g 2 a0 (f_X2_lowOf g m a0 a1)).bind fun v3 =>
(f_X2_isIn v2 (v3 + (1 : Int32)) (-1 : Int32)).bind fun v4 =>
(zbo v4).bind fun z =>
some (z))
else ((zrc g 2 a0 (f_X2_upOf g m a0 a1)).bind fun v5 =>
(zrc g 2 a0 (f_X2_lowOf g m a0 a1)).bind fun v6 =>
(f_X2_isIn v5 (1 : Int32) (v6 - (1 : Int32))).bind fun v7 =>
(zbo v7).bind fun z =>
some (z))
theorem hy_X2_isBetween : zHy yX2_isBetween 1 := ⟨by decide, by decide, by decide +kernel⟩
set_option maxHeartbeats 4000000 in
theorem ok_X2_isBetween (l : Launch) (g : zGd) (m : zMm) (a0 : Option Nat) (a1 : Int32) (z0 : Int32) (h : f_X2_isBetween g m a0 a1 = some z0) : zCT l yX2_isBetween cX2_isBetween 2 (some .boolean) 4 85 g m [va_rf a0, .int a1] (some (.int z0)) g m := by
  refine zCT.of (own := "QuiverKinModel") (mn := "isBetween") (by decide +kernel) rfl rfl (zla_r (zla_i zla_0)) (zls_r (zls_i zls_0)) (by decide) (fun X hxl hxg hxf hxt hxr hxn => ?_)
  have Kret : ∀ (y0 : Int32), y0 = z0 → zRe X g m (some (.int y0)) := by
    intro y0 e; cases e; exact ⟨hxf, hxr, hxn⟩
  subst hxl
  show zG X cX2_isBetween 2 "QuiverKinModel" "isBetween" 4 85 0 [(0, va_rf a0), (1, .int a1)] [] g m
  unfold f_X2_isBetween at h
  refine g_aload_n dX2_isBetween_0 0 rfl ?_
  refine g_iload_n dX2_isBetween_1 1 rfl ?_
  refine g_cVRv (rv := fun x : Int32 => Value.int x) [.int a1] (fun x0 e0 => ok_X2_lowOf (xl X) g m a0 a1 x0 e0) zc2 (by decide) (lw_V q2026 q2028 qs117 q126 q2029) rfl hy_X2_lowOf rfl ⟨by decide, by decide⟩ rfl zc_0 (by decide) dX2_isBetween_2 h (fun v1 h => ?_)
  refine g_if_le 27 dX2_isBetween_5 (by decide) (fun c => ?_) (fun c => ?_)
  · have h := zite_p h c
    refine g_aload_n dX2_isBetween_27 0 rfl ?_
    refine g_iload_n dX2_isBetween_28 1 rfl ?_
    refine g_cVRv (rv := fun x : Int32 => Value.int x) [.int a1] (fun x0 e0 => ok_X2_upOf (xl X) g m a0 a1 x0 e0) zc2 (by decide) (lw_V q2030 q2032 qs118 q126 q2033) rfl hy_X2_upOf rfl ⟨by decide, by decide⟩ rfl zc_0 (by decide) dX2_isBetween_29 h (fun v2 h => ?_)
    refine g_aload_n dX2_isBetween_32 0 rfl ?_
    refine g_iload_n dX2_isBetween_33 1 rfl ?_
    refine g_cVRv (rv := fun x : Int32 => Value.int x) [.int a1] (fun x0 e0 => ok_X2_lowOf (xl X) g m a0 a1 x0 e0) zc2 (by decide) (lw_V q2026 q2028 qs117 q126 q2029) rfl hy_X2_lowOf rfl ⟨by decide, by decide⟩ rfl (zc_i zc_0) (by decide) dX2_isBetween_34 h (fun v3 h => ?_)
    refine g_iconst (v := (1 : Int32)) dX2_isBetween_37 (by decide) ?_
    refine g_iadd dX2_isBetween_38 ?_
    refine g_iconst (v := (-1 : Int32)) dX2_isBetween_39 (by decide) ?_
    refine g_cSRv (rv := fun x : Int32 => Value.int x) [.int v2, .int (v3 + (1 : Int32)), .int (-1 : Int32)] (fun x0 e0 => ok_X2_isIn (xl X) g m v2 (v3 + (1 : Int32)) (-1 : Int32) x0 e0) (lw_S q1534 q1535 q126 q1536) hy_X2_isIn rfl ⟨by decide, by decide⟩ rfl zc_0 (by decide) dX2_isBetween_40 h (fun v4 h => ?_)
    obtain ⟨hn, h⟩ := zbo_e h
    refine g_zret dX2_isBetween_43 hxt hn ?_
    have e := Option.some.inj h
    exact Kret _ e
  · have h := zite_n h c
    refine g_aload_n dX2_isBetween_8 0 rfl ?_
    refine g_iload_n dX2_isBetween_9 1 rfl ?_
    refine g_cVRv (rv := fun x : Int32 => Value.int x) [.int a1] (fun x0 e0 => ok_X2_upOf (xl X) g m a0 a1 x0 e0) zc2 (by decide) (lw_V q2030 q2032 qs118 q126 q2033) rfl hy_X2_upOf rfl ⟨by decide, by decide⟩ rfl zc_0 (by decide) dX2_isBetween_10 h (fun v5 h => ?_)
    refine g_iconst (v := (1 : Int32)) dX2_isBetween_13 (by decide) ?_
    refine g_aload_n dX2_isBetween_14 0 rfl ?_
    refine g_iload_n dX2_isBetween_15 1 rfl ?_
    refine g_cVRv (rv := fun x : Int32 => Value.int x) [.int a1] (fun x0 e0 => ok_X2_lowOf (xl X) g m a0 a1 x0 e0) zc2 (by decide) (lw_V q2026 q2028 qs117 q126 q2029) rfl hy_X2_lowOf rfl ⟨by decide, by decide⟩ rfl (zc_i (zc_i zc_0)) (by decide) dX2_isBetween_16 h (fun v6 h => ?_)
    refine g_iconst (v := (1 : Int32)) dX2_isBetween_19 (by decide) ?_
    refine g_isub dX2_isBetween_20 ?_
    refine g_cSRv (rv := fun x : Int32 => Value.int x) [.int v5, .int (1 : Int32), .int (v6 - (1 : Int32))] (fun x0 e0 => ok_X2_isIn (xl X) g m v5 (1 : Int32) (v6 - (1 : Int32)) x0 e0) (lw_S q1534 q1535 q126 q1536) hy_X2_isIn rfl ⟨by decide, by decide⟩ rfl zc_0 (by decide) dX2_isBetween_21 h (fun v7 h => ?_)
    refine g_goto 43 dX2_isBetween_24 (by decide) ?_
    obtain ⟨hn, h⟩ := zbo_e h
    refine g_zret dX2_isBetween_43 hxt hn ?_
    have e := Option.some.inj h
    exact Kret _ e
/-! QuiverKinModel.mixed -/
def f_X2_mixed (g : zGd) (m : zMm) (a0 : Option Nat) (a1 : Int32) (a2 : Int32) : Option (Int32) :=
(zrc g 2 a0 (f_X2_isBetween g m a0 (1 : Int32))).bind fun v1 =>
if v1 = 0 then (some ((-1 : Int32)))
else ((zrc g 2 a0 (f_X2_isBetween g m a0 (0 : Int32))).bind fun v2 =>
if v2 = 0 then (some ((-1 : Int32)))
else (((if a2 = 0 then ((zrc g 2 a0 (f_X2_upOf g m a0 a1)).bind fun v5 =>
some (v5))
else ((zrc g 2 a0 (f_X2_lowOf g m a0 a1)).bind fun v6 =>
some (v6)) : Option (Int32))).bind fun v4 =>
((if 0 ≤ v4 then (some (v4))
else (some ((-v4))) : Option (Int32))).bind fun v8 =>
(zrc g 2 a0 (f_X2_upOf g m a0 a1)).bind fun v9 =>
(zrc g 2 a0 (f_X2_lowOf g m a0 a1)).bind fun v10 =>
(f_X2_divisor v9 v10).bind fun v11 =>
(zdiv v8 v11).bind fun v12 =>
some (v12)))
theorem hy_X2_mixed : zHy yX2_mixed 2 := ⟨by decide, by decide, by decide +kernel⟩
set_option maxHeartbeats 4000000 in
theorem ok_X2_mixed (l : Launch) (g : zGd) (m : zMm) (a0 : Option Nat) (a1 : Int32) (a2 : Int32) (z0 : Int32) (h : f_X2_mixed g m a0 a1 a2 = some z0) : zCT l yX2_mixed cX2_mixed 4 (some .int) 5 106 g m [va_rf a0, .int a1, .int a2] (some (.int z0)) g m := by
  refine zCT.of (own := "QuiverKinModel") (mn := "mixed") (by decide +kernel) rfl rfl (zla_r (zla_i (zla_i zla_0))) (zls_r (zls_i (zls_i zls_0))) (by decide) (fun X hxl hxg hxf hxt hxr hxn => ?_)
  have Kret : ∀ (y0 : Int32), y0 = z0 → zRe X g m (some (.int y0)) := by
    intro y0 e; cases e; exact ⟨hxf, hxr, hxn⟩
  subst hxl
  show zG X cX2_mixed 4 "QuiverKinModel" "mixed" 5 106 0 [(0, va_rf a0), (1, .int a1), (2, .int a2)] [] g m
  unfold f_X2_mixed at h
  refine g_aload_n dX2_mixed_0 0 rfl ?_
  refine g_iconst (v := (1 : Int32)) dX2_mixed_1 (by decide) ?_
  refine g_cVRv (rv := fun x : Int32 => Value.int x) [.int (1 : Int32)] (fun x0 e0 => ok_X2_isBetween (xl X) g m a0 (1 : Int32) x0 e0) zc2 (by decide) (lw_V q2022 q2024 qs116 q126 q2025) rfl hy_X2_isBetween rfl ⟨by decide, by decide⟩ rfl zc_0 (by decide) dX2_mixed_2 h (fun v1 h => ?_)
  refine g_if_eq 16 dX2_mixed_5 (by decide) (fun c => ?_) (fun c => ?_)
  · have h := zite_p h c
    refine g_iconst (v := (-1 : Int32)) dX2_mixed_16 (by decide) ?_
    refine g_iret dX2_mixed_17 hxt ?_
    have e := Option.some.inj h
    exact Kret _ e
  · have h := zite_n h c
    refine g_aload_n dX2_mixed_8 0 rfl ?_
    refine g_iconst (v := (0 : Int32)) dX2_mixed_9 (by decide) ?_
    refine g_cVRv (rv := fun x : Int32 => Value.int x) [.int (0 : Int32)] (fun x0 e0 => ok_X2_isBetween (xl X) g m a0 (0 : Int32) x0 e0) zc2 (by decide) (lw_V q2022 q2024 qs116 q126 q2025) rfl hy_X2_isBetween rfl ⟨by decide, by decide⟩ rfl zc_0 (by decide) dX2_mixed_10 h (fun v2 h => ?_)
    refine g_if_ne 18 dX2_mixed_13 (by decide) (fun c => ?_) (fun c => ?_)
    · have h := zite_n h c
      refine g_iload_n dX2_mixed_18 2 rfl ?_
      obtain ⟨o3, h1, h2⟩ := zB_e h
      have K3 : ∀ (v4 : Int32), o3 = v4 → zG X cX2_mixed 4 "QuiverKinModel" "mixed" 5 106 35 [(0, va_rf a0), (1, .int a1)] [.int v4] g m := by
        intro v4 e
        rw [e] at h2
        have h := h2
        refine g_istore_n [(3, .int v4), (0, va_rf a0), (1, .int a1)] dX2_mixed_35 (by decide) (zf_r (zf_i zf_0)) rfl ?_
        refine g_iload_n dX2_mixed_36 0 rfl ?_
        obtain ⟨o7, h1, h2⟩ := zB_e h
        have K7 : ∀ (v8 : Int32), o7 = v8 → zG X cX2_mixed 4 "QuiverKinModel" "mixed" 5 106 46 [(0, va_rf a0), (1, .int a1)] [.int v8] g m := by
          intro v8 e
          rw [e] at h2
          have h := h2
          refine g_aload_n dX2_mixed_46 0 rfl ?_
          refine g_iload_n dX2_mixed_47 1 rfl ?_
          refine g_cVRv (rv := fun x : Int32 => Value.int x) [.int a1] (fun x0 e0 => ok_X2_upOf (xl X) g m a0 a1 x0 e0) zc2 (by decide) (lw_V q2030 q2032 qs118 q126 q2033) rfl hy_X2_upOf rfl ⟨by decide, by decide⟩ rfl (zc_i zc_0) (by decide) dX2_mixed_48 h (fun v9 h => ?_)
          refine g_aload_n dX2_mixed_51 0 rfl ?_
          refine g_iload_n dX2_mixed_52 1 rfl ?_
          refine g_cVRv (rv := fun x : Int32 => Value.int x) [.int a1] (fun x0 e0 => ok_X2_lowOf (xl X) g m a0 a1 x0 e0) zc2 (by decide) (lw_V q2026 q2028 qs117 q126 q2029) rfl hy_X2_lowOf rfl ⟨by decide, by decide⟩ rfl (zc_i (zc_i zc_0)) (by decide) dX2_mixed_53 h (fun v10 h => ?_)
          refine g_cSRv (rv := fun x : Int32 => Value.int x) [.int v9, .int v10] (fun x0 e0 => ok_X2_divisor (xl X) g m v9 v10 x0 e0) (lw_S q2034 q2035 q126 q2036) hy_X2_divisor rfl ⟨by decide, by decide⟩ rfl (zc_i zc_0) (by decide) dX2_mixed_56 h (fun v11 h => ?_)
          refine g_idiv dX2_mixed_59 h (fun v12 h => ?_)
          refine g_iret dX2_mixed_60 hxt ?_
          have e := Option.some.inj h
          exact Kret _ e
        have h := h1
        refine g_if_ge 45 dX2_mixed_37 (by decide) (fun c => ?_) (fun c => ?_)
        · have h := zite_p h c
          refine g_iload_n dX2_mixed_45 0 rfl ?_
          refine zG.sub [1, 2] rfl ?_
          have e := Option.some.inj h
          exact K7 _ e.symm
        · have h := zite_n h c
          refine g_iload_n dX2_mixed_40 0 rfl ?_
          refine g_ineg dX2_mixed_41 ?_
          refine g_goto 46 dX2_mixed_42 (by decide) ?_
          refine zG.sub [1, 2] rfl ?_
          have e := Option.some.inj h
          exact K7 _ e.symm
      have h := h1
      refine g_if_eq 30 dX2_mixed_19 (by decide) (fun c => ?_) (fun c => ?_)
      · have h := zite_p h c
        refine g_aload_n dX2_mixed_30 0 rfl ?_
        refine g_iload_n dX2_mixed_31 1 rfl ?_
        refine g_cVRv (rv := fun x : Int32 => Value.int x) [.int a1] (fun x0 e0 => ok_X2_upOf (xl X) g m a0 a1 x0 e0) zc2 (by decide) (lw_V q2030 q2032 qs118 q126 q2033) rfl hy_X2_upOf rfl ⟨by decide, by decide⟩ rfl zc_0 (by decide) dX2_mixed_32 h (fun v5 h => ?_)
        refine zG.sub [0, 1] rfl ?_
        have e := Option.some.inj h
        exact K3 _ e.symm
      · have h := zite_n h c
        refine g_aload_n dX2_mixed_22 0 rfl ?_
        refine g_iload_n dX2_mixed_23 1 rfl ?_
        refine g_cVRv (rv := fun x : Int32 => Value.int x) [.int a1] (fun x0 e0 => ok_X2_lowOf (xl X) g m a0 a1 x0 e0) zc2 (by decide) (lw_V q2026 q2028 qs117 q126 q2029) rfl hy_X2_lowOf rfl ⟨by decide, by decide⟩ rfl zc_0 (by decide) dX2_mixed_24 h (fun v6 h => ?_)
        refine g_goto 35 dX2_mixed_27 (by decide) ?_
        refine zG.sub [0, 1] rfl ?_
        have e := Option.some.inj h
        exact K3 _ e.symm
    · have h := zite_p h c
      refine g_iconst (v := (-1 : Int32)) dX2_mixed_16 (by decide) ?_
      refine g_iret dX2_mixed_17 hxt ?_
      have e := Option.some.inj h
      exact Kret _ e
/-! QuiverKinModel.saying -/
def f_X2_saying (g : zGd) (m : zMm) (a0 : Option Nat) (a1 : Int32) (a2 : Int32) : Option (Int32 × zMm) :=
if a1 = (-1 : Int32) then ((zgr g m 2 0 a0).bind fun r18 =>
(zast 101 g m r18 (5 : Int32) (0 : Int32)).bind fun m19 =>
some (((0 : Int32), m19)))
else ((f_X2_isIn a1 (0 : Int32) (99 : Int32)).bind fun v1 =>
if v1 = 0 then (some (((-2 : Int32), m)))
else ((f_X2_isIn a2 (1 : Int32) (99 : Int32)).bind fun v2 =>
if v2 = 0 then (some (((-2 : Int32), m)))
else ((zgr g m 2 0 a0).bind fun r3 =>
(zald 101 g m r3 (5 : Int32)).bind fun v4 =>
if v4 = (8 : Int32) then (some (((-2 : Int32), m)))
else ((zgr g m 2 0 a0).bind fun r5 =>
(zgr g m 2 0 a0).bind fun r6 =>
(zald 101 g m r6 (5 : Int32)).bind fun v7 =>
(zast 101 g m r5 ((133 : Int32) + ((2 : Int32) * v7)) a1).bind fun m8 =>
(zgr g m8 2 0 a0).bind fun r9 =>
(zgr g m8 2 0 a0).bind fun r10 =>
(zald 101 g m8 r10 (5 : Int32)).bind fun v11 =>
(zast 101 g m8 r9 (((133 : Int32) + ((2 : Int32) * v11)) + (1 : Int32)) a2).bind fun m12 =>
(zgr g m12 2 0 a0).bind fun r13 =>
(zald 101 g m12 r13 (5 : Int32)).bind fun v14 =>
(zast 101 g m12 r13 (5 : Int32) (v14 + (1 : Int32))).bind fun m15 =>
(zgr g m15 2 0 a0).bind fun r16 =>
(zald 101 g m15 r16 (5 : Int32)).bind fun v17 =>
some ((v17, m15))))))
theorem hy_X2_saying : zHy yX2_saying 2 := ⟨by decide, by decide, by decide +kernel⟩
set_option maxHeartbeats 4000000 in
theorem ok_X2_saying (l : Launch) (g : zGd) (m : zMm) (a0 : Option Nat) (a1 : Int32) (a2 : Int32) (z0 : Int32) (m0 : zMm) (h : f_X2_saying g m a0 a1 a2 = some (z0, m0)) : zCT l yX2_saying cX2_saying 3 (some .int) 2 42 g m [va_rf a0, .int a1, .int a2] (some (.int z0)) g m0 := by
  refine zCT.of (own := "QuiverKinModel") (mn := "saying") (by decide +kernel) rfl rfl (zla_r (zla_i (zla_i zla_0))) (zls_r (zls_i (zls_i zls_0))) (by decide) (fun X hxl hxg hxf hxt hxr hxn => ?_)
  have Kret : ∀ (y0 : Int32) (y1 : zMm), (y0, y1) = (z0, m0) → zRe X g y1 (some (.int y0)) := by
    intro y0 y1 e; cases e; exact ⟨hxf, hxr, hxn⟩
  subst hxl
  show zG X cX2_saying 3 "QuiverKinModel" "saying" 2 42 0 [(0, va_rf a0), (1, .int a1), (2, .int a2)] [] g m
  unfold f_X2_saying at h
  refine g_iload_n dX2_saying_0 1 rfl ?_
  refine g_iconst (v := (-1 : Int32)) dX2_saying_1 (by decide) ?_
  refine g_icmp_ne 14 dX2_saying_2 (by decide) (fun c => ?_) (fun c => ?_)
  · have h := zite_n h c
    refine g_iload_n dX2_saying_14 1 rfl ?_
    refine g_iconst (v := (0 : Int32)) dX2_saying_15 (by decide) ?_
    refine g_bipush (v := (99 : Int32)) dX2_saying_16 (by decide) ?_
    refine g_cSRv (rv := fun x : Int32 => Value.int x) [.int a1, .int (0 : Int32), .int (99 : Int32)] (fun x0 e0 => ok_X2_isIn (xl X) g m a1 (0 : Int32) (99 : Int32) x0 e0) (lw_S q1534 q1535 q126 q1536) hy_X2_isIn rfl ⟨by decide, by decide⟩ rfl zc_0 (by decide) dX2_saying_18 h (fun v1 h => ?_)
    refine g_if_eq 45 dX2_saying_21 (by decide) (fun c => ?_) (fun c => ?_)
    · have h := zite_p h c
      refine g_bipush (v := (-2 : Int32)) dX2_saying_45 (by decide) ?_
      refine g_iret dX2_saying_47 hxt ?_
      have e := Option.some.inj h
      exact Kret _ _ e
    · have h := zite_n h c
      refine g_iload_n dX2_saying_24 2 rfl ?_
      refine g_iconst (v := (1 : Int32)) dX2_saying_25 (by decide) ?_
      refine g_bipush (v := (99 : Int32)) dX2_saying_26 (by decide) ?_
      refine g_cSRv (rv := fun x : Int32 => Value.int x) [.int a2, .int (1 : Int32), .int (99 : Int32)] (fun x0 e0 => ok_X2_isIn (xl X) g m a2 (1 : Int32) (99 : Int32) x0 e0) (lw_S q1534 q1535 q126 q1536) hy_X2_isIn rfl ⟨by decide, by decide⟩ rfl zc_0 (by decide) dX2_saying_28 h (fun v2 h => ?_)
      refine g_if_eq 45 dX2_saying_31 (by decide) (fun c => ?_) (fun c => ?_)
      · have h := zite_p h c
        refine g_bipush (v := (-2 : Int32)) dX2_saying_45 (by decide) ?_
        refine g_iret dX2_saying_47 hxt ?_
        have e := Option.some.inj h
        exact Kret _ _ e
      · have h := zite_n h c
        refine g_aload_n dX2_saying_34 0 rfl ?_
        refine gf_r zfd_2_0 q1410  (fun _ h9 => h9) dX2_saying_35 h (fun r3 h => ?_)
        refine g_iconst (v := (5 : Int32)) dX2_saying_38 (by decide) ?_
        refine g_iald dX2_saying_39 h (fun v4 h => ?_)
        refine g_bipush (v := (8 : Int32)) dX2_saying_40 (by decide) ?_
        refine g_icmp_ne 48 dX2_saying_42 (by decide) (fun c => ?_) (fun c => ?_)
        · have h := zite_n h c
          refine g_aload_n dX2_saying_48 0 rfl ?_
          refine gf_r zfd_2_0 q1410  (fun _ h9 => h9) dX2_saying_49 h (fun r5 h => ?_)
          refine g_sipush (v := (133 : Int32)) dX2_saying_52 (by decide) ?_
          refine g_iconst (v := (2 : Int32)) dX2_saying_55 (by decide) ?_
          refine g_aload_n dX2_saying_56 0 rfl ?_
          refine gf_r zfd_2_0 q1410  (fun _ h9 => h9) dX2_saying_57 h (fun r6 h => ?_)
          refine g_iconst (v := (5 : Int32)) dX2_saying_60 (by decide) ?_
          refine g_iald dX2_saying_61 h (fun v7 h => ?_)
          refine g_imul dX2_saying_62 ?_
          refine g_iadd dX2_saying_63 ?_
          refine g_iload_n dX2_saying_64 1 rfl ?_
          refine g_iast dX2_saying_65 h (fun m8 h => ?_)
          refine g_aload_n dX2_saying_66 0 rfl ?_
          refine gf_r zfd_2_0 q1410  (fun _ h9 => h9) dX2_saying_67 h (fun r9 h => ?_)
          refine g_sipush (v := (133 : Int32)) dX2_saying_70 (by decide) ?_
          refine g_iconst (v := (2 : Int32)) dX2_saying_73 (by decide) ?_
          refine g_aload_n dX2_saying_74 0 rfl ?_
          refine gf_r zfd_2_0 q1410  (fun _ h9 => h9) dX2_saying_75 h (fun r10 h => ?_)
          refine g_iconst (v := (5 : Int32)) dX2_saying_78 (by decide) ?_
          refine g_iald dX2_saying_79 h (fun v11 h => ?_)
          refine g_imul dX2_saying_80 ?_
          refine g_iadd dX2_saying_81 ?_
          refine g_iconst (v := (1 : Int32)) dX2_saying_82 (by decide) ?_
          refine g_iadd dX2_saying_83 ?_
          refine g_iload_n dX2_saying_84 2 rfl ?_
          refine g_iast dX2_saying_85 h (fun m12 h => ?_)
          refine g_aload_n dX2_saying_86 0 rfl ?_
          refine gf_r zfd_2_0 q1410  (fun _ h9 => h9) dX2_saying_87 h (fun r13 h => ?_)
          refine g_iconst (v := (5 : Int32)) dX2_saying_90 (by decide) ?_
          refine g_dup2 dX2_saying_91 rfl (zcat_r _) ?_
          refine g_iald dX2_saying_92 h (fun v14 h => ?_)
          refine g_iconst (v := (1 : Int32)) dX2_saying_93 (by decide) ?_
          refine g_iadd dX2_saying_94 ?_
          refine g_iast dX2_saying_95 h (fun m15 h => ?_)
          refine g_aload_n dX2_saying_96 0 rfl ?_
          refine gf_r zfd_2_0 q1410  (fun _ h9 => h9) dX2_saying_97 h (fun r16 h => ?_)
          refine g_iconst (v := (5 : Int32)) dX2_saying_100 (by decide) ?_
          refine g_iald dX2_saying_101 h (fun v17 h => ?_)
          refine g_iret dX2_saying_102 hxt ?_
          have e := Option.some.inj h
          exact Kret _ _ e
        · have h := zite_p h c
          refine g_bipush (v := (-2 : Int32)) dX2_saying_45 (by decide) ?_
          refine g_iret dX2_saying_47 hxt ?_
          have e := Option.some.inj h
          exact Kret _ _ e
  · have h := zite_p h c
    refine g_aload_n dX2_saying_5 0 rfl ?_
    refine gf_r zfd_2_0 q1410  (fun _ h9 => h9) dX2_saying_6 h (fun r18 h => ?_)
    refine g_iconst (v := (5 : Int32)) dX2_saying_9 (by decide) ?_
    refine g_iconst (v := (0 : Int32)) dX2_saying_10 (by decide) ?_
    refine g_iast dX2_saying_11 h (fun m19 h => ?_)
    refine g_iconst (v := (0 : Int32)) dX2_saying_12 (by decide) ?_
    refine g_iret dX2_saying_13 hxt ?_
    have e := Option.some.inj h
    exact Kret _ _ e
/-! QuiverKinModel.bits -/
def b_X2_bits_4  : Int32 × Int32 → Option ((Int32) ⊕ (Int32 × Int32)) := fun (v4, v5) =>
if v5 = 0 then (some (.inl v4))
else (zlt (v4 + (1 : Int32)) fun v6 =>
zlt (v5 &&& (v5 - (1 : Int32))) fun v7 =>
some (.inr (v6, v7)))
def f_X2_bits (a0 : Int32) : Option (Int32) :=
(zLoop b_X2_bits_4 zFuel ((0 : Int32), a0)).bind fun v2 =>
some (v2)
theorem hy_X2_bits : zHy yX2_bits 1 := ⟨by decide, by decide, by decide +kernel⟩
set_option maxHeartbeats 4000000 in
theorem ok_X2_bits (l : Launch) (g : zGd) (m : zMm) (a0 : Int32) (z0 : Int32) (h : f_X2_bits a0 = some z0) : zCT l yX2_bits cX2_bits 3 (some .int) 1 20 g m [.int a0] (some (.int z0)) g m := by
  refine zCT.of (own := "QuiverKinModel") (mn := "bits") (by decide +kernel) rfl rfl (zla_i zla_0) (zls_i zls_0) (by decide) (fun X hxl hxg hxf hxt hxr hxn => ?_)
  have Kret : ∀ (y0 : Int32), y0 = z0 → zRe X g m (some (.int y0)) := by
    intro y0 e; cases e; exact ⟨hxf, hxr, hxn⟩
  subst hxl
  show zG X cX2_bits 3 "QuiverKinModel" "bits" 1 20 0 [(0, .int a0)] [] g m
  unfold f_X2_bits at h
  refine g_iconst (v := (0 : Int32)) dX2_bits_0 (by decide) ?_
  refine g_istore_n [(1, .int (0 : Int32)), (0, .int a0)] dX2_bits_1 (by decide) (zf_i zf_0) rfl ?_
  refine g_iload_n dX2_bits_2 1 rfl ?_
  refine g_istore_n [(2, .int a0), (1, .int (0 : Int32)), (0, .int a0)] dX2_bits_3 (by decide) (zf_i (zf_i zf_0)) rfl ?_
  obtain ⟨o1, h1, h2⟩ := zB_e h
  have K1 : ∀ (v2 : Int32), o1 = v2 → zG X cX2_bits 3 "QuiverKinModel" "bits" 1 20 20 [(1, .int v2)] [] g m := by
    intro v2 e
    rw [e] at h2
    have h := h2
    refine g_iload_n dX2_bits_20 0 rfl ?_
    refine g_iret dX2_bits_21 hxt ?_
    have e := Option.some.inj h
    exact Kret _ e
  refine zG.sub [1, 0] rfl ?_
  refine zLoop_ok (Φ := (fun (q : Int32 × Int32) => match q with | (v4, v5) => zG X cX2_bits 3 "QuiverKinModel" "bits" 1 20 4 [(1, .int v4), (2, .int v5)] [] g m)) o1 ?_ zFuel _ h1
  rintro ⟨v4, v5⟩ x3 h hl3 hr3
  unfold b_X2_bits_4 at h
  have K3 : ∀ (v4 : Int32) (v5 : Int32), x3 = .inr (v4, v5) → zG X cX2_bits 3 "QuiverKinModel" "bits" 1 20 4 [(1, .int v4), (2, .int v5)] [] g m := by
    intro v4 v5 e
    exact hr3 _ e
  show zG X cX2_bits 3 "QuiverKinModel" "bits" 1 20 4 [(1, .int v4), (2, .int v5)] [] g m
  refine g_iload_n dX2_bits_4 1 rfl ?_
  refine g_if_eq 20 dX2_bits_5 (by decide) (fun c => ?_) (fun c => ?_)
  · have h := zite_p h c
    refine zG.sub [0] rfl ?_
    have e := Option.some.inj h
    have e := hl3 _ e.symm
    exact K1 _ e.symm
  · have h := zite_n h c
    refine g_iinc (v := (1 : Int32)) [(2, .int v5)] dX2_bits_8 0 rfl (by decide) (by decide) (zf_i (zf_i zf_0)) rfl h (fun v6 h => ?_)
    refine g_iload_n dX2_bits_11 1 rfl ?_
    refine g_iload_n dX2_bits_12 1 rfl ?_
    refine g_iconst (v := (1 : Int32)) dX2_bits_13 (by decide) ?_
    refine g_isub dX2_bits_14 ?_
    refine g_iand dX2_bits_15 ?_
    refine g_leti h (fun v7 h => ?_)
    refine g_istore_n [(2, .int v7), (1, .int v6)] dX2_bits_16 (by decide) (zf_i (zf_i zf_0)) rfl ?_
    refine g_goto 4 dX2_bits_17 (by decide) ?_
    refine zG.sub [1, 0] rfl ?_
    have e := Option.some.inj h
    exact K3 _ _ e.symm
/-! QuiverKinModel.sumOf -/
def b_X2_sumOf_5 (g : zGd) (m : zMm) (a0 : Option Nat) (a1 : Int32) (a2 : Int32) : Int32 × Int32 → Option ((Int32) ⊕ (Int32 × Int32)) := fun (v4, v5) =>
(zgr g m 2 0 a0).bind fun r6 =>
(zald 101 g m r6 (5 : Int32)).bind fun v7 =>
if v7 ≤ v5 then (some (.inl v4))
else ((f_X2_has a1 v5).bind fun v8 =>
if v8 = 0 then (zlt (v4 + (0 : Int32)) fun v9 =>
zlt (v5 + (1 : Int32)) fun v10 =>
some (.inr (v9, v10)))
else ((zgr g m 2 0 a0).bind fun r11 =>
(zald 101 g m r11 (((133 : Int32) + ((2 : Int32) * v5)) + a2)).bind fun v12 =>
zlt (v4 + v12) fun v13 =>
zlt (v5 + (1 : Int32)) fun v14 =>
some (.inr (v13, v14))))
def f_X2_sumOf (g : zGd) (m : zMm) (a0 : Option Nat) (a1 : Int32) (a2 : Int32) : Option (Int32) :=
(zLoop (b_X2_sumOf_5 g m a0 a1 a2) zFuel ((0 : Int32), (0 : Int32))).bind fun v2 =>
some (v2)
theorem hy_X2_sumOf : zHy yX2_sumOf 2 := ⟨by decide, by decide, by decide +kernel⟩
set_option maxHeartbeats 4000000 in
theorem ok_X2_sumOf (l : Launch) (g : zGd) (m : zMm) (a0 : Option Nat) (a1 : Int32) (a2 : Int32) (z0 : Int32) (h : f_X2_sumOf g m a0 a1 a2 = some z0) : zCT l yX2_sumOf cX2_sumOf 5 (some .int) 2 41 g m [va_rf a0, .int a1, .int a2] (some (.int z0)) g m := by
  refine zCT.of (own := "QuiverKinModel") (mn := "sumOf") (by decide +kernel) rfl rfl (zla_r (zla_i (zla_i zla_0))) (zls_r (zls_i (zls_i zls_0))) (by decide) (fun X hxl hxg hxf hxt hxr hxn => ?_)
  have Kret : ∀ (y0 : Int32), y0 = z0 → zRe X g m (some (.int y0)) := by
    intro y0 e; cases e; exact ⟨hxf, hxr, hxn⟩
  subst hxl
  show zG X cX2_sumOf 5 "QuiverKinModel" "sumOf" 2 41 0 [(0, va_rf a0), (1, .int a1), (2, .int a2)] [] g m
  unfold f_X2_sumOf at h
  refine g_iconst (v := (0 : Int32)) dX2_sumOf_0 (by decide) ?_
  refine g_istore_n [(3, .int (0 : Int32)), (0, va_rf a0), (1, .int a1), (2, .int a2)] dX2_sumOf_1 (by decide) (zf_r (zf_i (zf_i zf_0))) rfl ?_
  refine g_iconst (v := (0 : Int32)) dX2_sumOf_2 (by decide) ?_
  refine g_istore [(4, .int (0 : Int32)), (3, .int (0 : Int32)), (0, va_rf a0), (1, .int a1), (2, .int a2)] dX2_sumOf_3 (by decide) (zf_i (zf_r (zf_i (zf_i zf_0)))) rfl ?_
  obtain ⟨o1, h1, h2⟩ := zB_e h
  have K1 : ∀ (v2 : Int32), o1 = v2 → zG X cX2_sumOf 5 "QuiverKinModel" "sumOf" 2 41 53 [(3, .int v2)] [] g m := by
    intro v2 e
    rw [e] at h2
    have h := h2
    refine g_iload_n dX2_sumOf_53 0 rfl ?_
    refine g_iret dX2_sumOf_54 hxt ?_
    have e := Option.some.inj h
    exact Kret _ e
  refine zG.sub [2, 3, 4, 1, 0] rfl ?_
  refine zLoop_ok (Φ := (fun (q : Int32 × Int32) => match q with | (v4, v5) => zG X cX2_sumOf 5 "QuiverKinModel" "sumOf" 2 41 5 [(0, va_rf a0), (1, .int a1), (2, .int a2), (3, .int v4), (4, .int v5)] [] g m)) o1 ?_ zFuel _ h1
  rintro ⟨v4, v5⟩ x3 h hl3 hr3
  unfold b_X2_sumOf_5 at h
  have K3 : ∀ (v4 : Int32) (v5 : Int32), x3 = .inr (v4, v5) → zG X cX2_sumOf 5 "QuiverKinModel" "sumOf" 2 41 5 [(0, va_rf a0), (1, .int a1), (2, .int a2), (3, .int v4), (4, .int v5)] [] g m := by
    intro v4 v5 e
    exact hr3 _ e
  show zG X cX2_sumOf 5 "QuiverKinModel" "sumOf" 2 41 5 [(0, va_rf a0), (1, .int a1), (2, .int a2), (3, .int v4), (4, .int v5)] [] g m
  refine g_iload dX2_sumOf_5 4 rfl ?_
  refine g_aload_n dX2_sumOf_7 0 rfl ?_
  refine gf_r zfd_2_0 q1410  (fun _ h9 => h9) dX2_sumOf_8 h (fun r6 h => ?_)
  refine g_iconst (v := (5 : Int32)) dX2_sumOf_11 (by decide) ?_
  refine g_iald dX2_sumOf_12 h (fun v7 h => ?_)
  refine g_icmp_ge 53 dX2_sumOf_13 (by decide) (fun c => ?_) (fun c => ?_)
  · have h := zite_p h c
    refine zG.sub [3] rfl ?_
    have e := Option.some.inj h
    have e := hl3 _ e.symm
    exact K1 _ e.symm
  · have h := zite_n h c
    refine g_iload_n dX2_sumOf_16 3 rfl ?_
    refine g_iload_n dX2_sumOf_17 1 rfl ?_
    refine g_iload dX2_sumOf_18 4 rfl ?_
    refine g_cSRv (rv := fun x : Int32 => Value.int x) [.int a1, .int v5] (fun x0 e0 => ok_X2_has (xl X) g m a1 v5 x0 e0) (lw_S q1619 q1620 q126 q1621) hy_X2_has rfl ⟨by decide, by decide⟩ rfl (zc_i zc_0) (by decide) dX2_sumOf_20 h (fun v8 h => ?_)
    refine g_if_eq 44 dX2_sumOf_23 (by decide) (fun c => ?_) (fun c => ?_)
    · have h := zite_p h c
      refine g_iconst (v := (0 : Int32)) dX2_sumOf_44 (by decide) ?_
      refine g_iadd dX2_sumOf_45 ?_
      refine g_leti h (fun v9 h => ?_)
      refine g_istore_n [(3, .int v9), (0, va_rf a0), (1, .int a1), (2, .int a2), (4, .int v5)] dX2_sumOf_46 (by decide) (zf_r (zf_i (zf_i (zf_i (zf_i zf_0))))) rfl ?_
      refine g_iinc (v := (1 : Int32)) [(3, .int v9), (0, va_rf a0), (1, .int a1), (2, .int a2)] dX2_sumOf_47 4 rfl (by decide) (by decide) (zf_i (zf_r (zf_i (zf_i (zf_i zf_0))))) rfl h (fun v10 h => ?_)
      refine g_goto 5 dX2_sumOf_50 (by decide) ?_
      refine zG.sub [2, 3, 4, 1, 0] rfl ?_
      have e := Option.some.inj h
      exact K3 _ _ e.symm
    · have h := zite_n h c
      refine g_aload_n dX2_sumOf_26 0 rfl ?_
      refine gf_r zfd_2_0 q1410  (fun _ h9 => h9) dX2_sumOf_27 h (fun r11 h => ?_)
      refine g_sipush (v := (133 : Int32)) dX2_sumOf_30 (by decide) ?_
      refine g_iconst (v := (2 : Int32)) dX2_sumOf_33 (by decide) ?_
      refine g_iload dX2_sumOf_34 4 rfl ?_
      refine g_imul dX2_sumOf_36 ?_
      refine g_iadd dX2_sumOf_37 ?_
      refine g_iload_n dX2_sumOf_38 2 rfl ?_
      refine g_iadd dX2_sumOf_39 ?_
      refine g_iald dX2_sumOf_40 h (fun v12 h => ?_)
      refine g_goto 45 dX2_sumOf_41 (by decide) ?_
      refine g_iadd dX2_sumOf_45 ?_
      refine g_leti h (fun v13 h => ?_)
      refine g_istore_n [(3, .int v13), (0, va_rf a0), (1, .int a1), (2, .int a2), (4, .int v5)] dX2_sumOf_46 (by decide) (zf_r (zf_i (zf_i (zf_i (zf_i zf_0))))) rfl ?_
      refine g_iinc (v := (1 : Int32)) [(3, .int v13), (0, va_rf a0), (1, .int a1), (2, .int a2)] dX2_sumOf_47 4 rfl (by decide) (by decide) (zf_i (zf_r (zf_i (zf_i (zf_i zf_0))))) rfl h (fun v14 h => ?_)
      refine g_goto 5 dX2_sumOf_50 (by decide) ?_
      refine zG.sub [2, 3, 4, 1, 0] rfl ?_
      have e := Option.some.inj h
      exact K3 _ _ e.symm
/-! QuiverKinModel.least -/
def b_X2_least_18 (g : zGd) (m : zMm) (a0 : Option Nat) (a1 : Int32) : Int32 × Int32 → Option ((Int32) ⊕ (Int32 × Int32)) := fun (v5, v6) =>
(zgr g m 2 0 a0).bind fun r7 =>
(zald 101 g m r7 (5 : Int32)).bind fun v8 =>
if (zshl (1 : Int32) v8) ≤ v6 then (some (.inl v5))
else ((zrc g 2 a0 (f_X2_sumOf g m a0 v6 (1 : Int32))).bind fun v9 =>
if a1 ≤ v9 then (((if v5 = (-1 : Int32) then (some ((-1 : Int32)))
else ((zrc g 2 a0 (f_X2_sumOf g m a0 v6 (0 : Int32))).bind fun v12 =>
(zrc g 2 a0 (f_X2_sumOf g m a0 v5 (0 : Int32))).bind fun v13 =>
some ((v12 - v13))) : Option (Int32))).bind fun v11 =>
if v11 < 0 then (zlt (v6 + (1 : Int32)) fun v14 =>
some (.inr (v6, v14)))
else (if v11 = 0 then ((f_X2_bits v6).bind fun v16 =>
(f_X2_bits v5).bind fun v17 =>
if v17 ≤ v16 then (zlt (v6 + (1 : Int32)) fun v18 =>
some (.inr (v5, v18)))
else (zlt (v6 + (1 : Int32)) fun v19 =>
some (.inr (v6, v19))))
else (zlt (v6 + (1 : Int32)) fun v15 =>
some (.inr (v5, v15)))))
else (zlt (v6 + (1 : Int32)) fun v20 =>
some (.inr (v5, v20))))
def f_X2_least (g : zGd) (m : zMm) (a0 : Option Nat) (a1 : Int32) (a2 : Int32) : Option (Int32) :=
(f_X2_isIn a1 (0 : Int32) (999 : Int32)).bind fun v1 =>
if v1 = 0 then (some ((-1 : Int32)))
else ((zLoop (b_X2_least_18 g m a0 a1) zFuel ((-1 : Int32), (0 : Int32))).bind fun v3 =>
if v3 = (-1 : Int32) then (some ((-1 : Int32)))
else (if a2 = 0 then (some (v3))
else ((zrc g 2 a0 (f_X2_sumOf g m a0 v3 (0 : Int32))).bind fun v21 =>
some (v21))))
theorem hy_X2_least : zHy yX2_least 2 := ⟨by decide, by decide, by decide +kernel⟩
set_option maxHeartbeats 4000000 in
theorem ok_X2_least (l : Launch) (g : zGd) (m : zMm) (a0 : Option Nat) (a1 : Int32) (a2 : Int32) (z0 : Int32) (h : f_X2_least g m a0 a1 a2 = some z0) : zCT l yX2_least cX2_least 6 (some .int) 3 65 g m [va_rf a0, .int a1, .int a2] (some (.int z0)) g m := by
  refine zCT.of (own := "QuiverKinModel") (mn := "least") (by decide +kernel) rfl rfl (zla_r (zla_i (zla_i zla_0))) (zls_r (zls_i (zls_i zls_0))) (by decide) (fun X hxl hxg hxf hxt hxr hxn => ?_)
  have Kret : ∀ (y0 : Int32), y0 = z0 → zRe X g m (some (.int y0)) := by
    intro y0 e; cases e; exact ⟨hxf, hxr, hxn⟩
  subst hxl
  show zG X cX2_least 6 "QuiverKinModel" "least" 3 65 0 [(0, va_rf a0), (1, .int a1), (2, .int a2)] [] g m
  unfold f_X2_least at h
  refine g_iload_n dX2_least_0 1 rfl ?_
  refine g_iconst (v := (0 : Int32)) dX2_least_1 (by decide) ?_
  refine g_sipush (v := (999 : Int32)) dX2_least_2 (by decide) ?_
  refine g_cSRv (rv := fun x : Int32 => Value.int x) [.int a1, .int (0 : Int32), .int (999 : Int32)] (fun x0 e0 => ok_X2_isIn (xl X) g m a1 (0 : Int32) (999 : Int32) x0 e0) (lw_S q1534 q1535 q126 q1536) hy_X2_isIn rfl ⟨by decide, by decide⟩ rfl zc_0 (by decide) dX2_least_5 h (fun v1 h => ?_)
  refine g_if_ne 13 dX2_least_8 (by decide) (fun c => ?_) (fun c => ?_)
  · have h := zite_n h c
    refine g_iconst (v := (-1 : Int32)) dX2_least_13 (by decide) ?_
    refine g_istore_n [(3, .int (-1 : Int32)), (0, va_rf a0), (1, .int a1), (2, .int a2)] dX2_least_14 (by decide) (zf_r (zf_i (zf_i zf_0))) rfl ?_
    refine g_iconst (v := (0 : Int32)) dX2_least_15 (by decide) ?_
    refine g_istore [(4, .int (0 : Int32)), (3, .int (-1 : Int32)), (0, va_rf a0), (1, .int a1), (2, .int a2)] dX2_least_16 (by decide) (zf_i (zf_r (zf_i (zf_i zf_0)))) rfl ?_
    obtain ⟨o2, h1, h2⟩ := zB_e h
    have K2 : ∀ (v3 : Int32), o2 = v3 → zG X cX2_least 6 "QuiverKinModel" "least" 3 65 101 [(0, va_rf a0), (2, .int a2), (3, .int v3)] [] g m := by
      intro v3 e
      rw [e] at h2
      have h := h2
      refine g_iload_n dX2_least_101 2 rfl ?_
      refine g_iconst (v := (-1 : Int32)) dX2_least_102 (by decide) ?_
      refine g_icmp_ne 110 dX2_least_103 (by decide) (fun c => ?_) (fun c => ?_)
      · have h := zite_n h c
        refine g_iload_n dX2_least_110 1 rfl ?_
        refine g_if_eq 123 dX2_least_111 (by decide) (fun c => ?_) (fun c => ?_)
        · have h := zite_p h c
          refine g_iload_n dX2_least_123 2 rfl ?_
          refine g_iret dX2_least_124 hxt ?_
          have e := Option.some.inj h
          exact Kret _ e
        · have h := zite_n h c
          refine g_aload_n dX2_least_114 0 rfl ?_
          refine g_iload_n dX2_least_115 2 rfl ?_
          refine g_iconst (v := (0 : Int32)) dX2_least_116 (by decide) ?_
          refine g_cVRv (rv := fun x : Int32 => Value.int x) [.int v3, .int (0 : Int32)] (fun x0 e0 => ok_X2_sumOf (xl X) g m a0 v3 (0 : Int32) x0 e0) zc2 (by decide) (lw_V q2045 q2047 qs119 q126 q2048) rfl hy_X2_sumOf rfl ⟨by decide, by decide⟩ rfl zc_0 (by decide) dX2_least_117 h (fun v21 h => ?_)
          refine g_goto 124 dX2_least_120 (by decide) ?_
          refine g_iret dX2_least_124 hxt ?_
          have e := Option.some.inj h
          exact Kret _ e
      · have h := zite_p h c
        refine g_iconst (v := (-1 : Int32)) dX2_least_106 (by decide) ?_
        refine g_goto 124 dX2_least_107 (by decide) ?_
        refine g_iret dX2_least_124 hxt ?_
        have e := Option.some.inj h
        exact Kret _ e
    refine zG.sub [2, 3, 4, 1, 0] rfl ?_
    refine zLoop_ok (Φ := (fun (q : Int32 × Int32) => match q with | (v5, v6) => zG X cX2_least 6 "QuiverKinModel" "least" 3 65 18 [(0, va_rf a0), (1, .int a1), (2, .int a2), (3, .int v5), (4, .int v6)] [] g m)) o2 ?_ zFuel _ h1
    rintro ⟨v5, v6⟩ x4 h hl4 hr4
    unfold b_X2_least_18 at h
    have K4 : ∀ (v5 : Int32) (v6 : Int32), x4 = .inr (v5, v6) → zG X cX2_least 6 "QuiverKinModel" "least" 3 65 18 [(0, va_rf a0), (1, .int a1), (2, .int a2), (3, .int v5), (4, .int v6)] [] g m := by
      intro v5 v6 e
      exact hr4 _ e
    show zG X cX2_least 6 "QuiverKinModel" "least" 3 65 18 [(0, va_rf a0), (1, .int a1), (2, .int a2), (3, .int v5), (4, .int v6)] [] g m
    refine g_iload dX2_least_18 4 rfl ?_
    refine g_iconst (v := (1 : Int32)) dX2_least_20 (by decide) ?_
    refine g_aload_n dX2_least_21 0 rfl ?_
    refine gf_r zfd_2_0 q1410  (fun _ h9 => h9) dX2_least_22 h (fun r7 h => ?_)
    refine g_iconst (v := (5 : Int32)) dX2_least_25 (by decide) ?_
    refine g_iald dX2_least_26 h (fun v8 h => ?_)
    refine g_ishl dX2_least_27 ?_
    refine g_icmp_ge 101 dX2_least_28 (by decide) (fun c => ?_) (fun c => ?_)
    · have h := zite_p h c
      refine zG.sub [0, 2, 3] rfl ?_
      have e := Option.some.inj h
      have e := hl4 _ e.symm
      exact K2 _ e.symm
    · have h := zite_n h c
      refine g_aload_n dX2_least_31 0 rfl ?_
      refine g_iload dX2_least_32 4 rfl ?_
      refine g_iconst (v := (1 : Int32)) dX2_least_34 (by decide) ?_
      refine g_cVRv (rv := fun x : Int32 => Value.int x) [.int v6, .int (1 : Int32)] (fun x0 e0 => ok_X2_sumOf (xl X) g m a0 v6 (1 : Int32) x0 e0) zc2 (by decide) (lw_V q2045 q2047 qs119 q126 q2048) rfl hy_X2_sumOf rfl ⟨by decide, by decide⟩ rfl zc_0 (by decide) dX2_least_35 h (fun v9 h => ?_)
      refine g_iload_n dX2_least_38 1 rfl ?_
      refine g_icmp_ge 45 dX2_least_39 (by decide) (fun c => ?_) (fun c => ?_)
      · have h := zite_p h c
        refine g_iload_n dX2_least_45 3 rfl ?_
        refine g_iconst (v := (-1 : Int32)) dX2_least_46 (by decide) ?_
        obtain ⟨o10, h1, h2⟩ := zB_e h
        have K10 : ∀ (v11 : Int32), o10 = v11 → zG X cX2_least 6 "QuiverKinModel" "least" 3 65 68 [(0, va_rf a0), (1, .int a1), (2, .int a2), (3, .int v5), (4, .int v6)] [.int v11] g m := by
          intro v11 e
          rw [e] at h2
          have h := h2
          refine g_istore [(5, .int v11), (0, va_rf a0), (1, .int a1), (2, .int a2), (3, .int v5), (4, .int v6)] dX2_least_68 (by decide) (zf_r (zf_i (zf_i (zf_i (zf_i zf_0))))) rfl ?_
          refine g_iload dX2_least_70 0 rfl ?_
          refine g_if_lt 92 dX2_least_72 (by decide) (fun c => ?_) (fun c => ?_)
          · have h := zite_p h c
            refine g_iload dX2_least_92 5 rfl ?_
            refine g_istore_n [(3, .int v6), (5, .int v11), (0, va_rf a0), (1, .int a1), (2, .int a2), (4, .int v6)] dX2_least_94 (by decide) (zf_i (zf_r (zf_i (zf_i (zf_i (zf_i zf_0)))))) rfl ?_
            refine g_iinc (v := (1 : Int32)) [(3, .int v6), (5, .int v11), (0, va_rf a0), (1, .int a1), (2, .int a2)] dX2_least_95 5 rfl (by decide) (by decide) (zf_i (zf_i (zf_r (zf_i (zf_i (zf_i zf_0)))))) rfl h (fun v14 h => ?_)
            refine g_goto 18 dX2_least_98 (by decide) ?_
            refine zG.sub [3, 4, 5, 1, 0] rfl ?_
            have e := Option.some.inj h
            exact K4 _ _ e.symm
          · have h := zite_n h c
            refine g_iload dX2_least_75 0 rfl ?_
            refine g_if_ne 95 dX2_least_77 (by decide) (fun c => ?_) (fun c => ?_)
            · have h := zite_n h c
              refine g_iinc (v := (1 : Int32)) [(5, .int v11), (0, va_rf a0), (1, .int a1), (2, .int a2), (3, .int v5)] dX2_least_95 5 rfl (by decide) (by decide) (zf_i (zf_r (zf_i (zf_i (zf_i (zf_i zf_0)))))) rfl h (fun v15 h => ?_)
              refine g_goto 18 dX2_least_98 (by decide) ?_
              refine zG.sub [2, 3, 4, 5, 0] rfl ?_
              have e := Option.some.inj h
              exact K4 _ _ e.symm
            · have h := zite_p h c
              refine g_iload dX2_least_80 5 rfl ?_
              refine g_cSRv (rv := fun x : Int32 => Value.int x) [.int v6] (fun x0 e0 => ok_X2_bits (xl X) g m v6 x0 e0) (lw_S q2049 q2050 q126 q2051) hy_X2_bits rfl ⟨by decide, by decide⟩ rfl zc_0 (by decide) dX2_least_82 h (fun v16 h => ?_)
              refine g_iload_n dX2_least_85 4 rfl ?_
              refine g_cSRv (rv := fun x : Int32 => Value.int x) [.int v5] (fun x0 e0 => ok_X2_bits (xl X) g m v5 x0 e0) (lw_S q2049 q2050 q126 q2051) hy_X2_bits rfl ⟨by decide, by decide⟩ rfl (zc_i zc_0) (by decide) dX2_least_86 h (fun v17 h => ?_)
              refine g_icmp_ge 95 dX2_least_89 (by decide) (fun c => ?_) (fun c => ?_)
              · have h := zite_p h c
                refine g_iinc (v := (1 : Int32)) [(5, .int v11), (0, va_rf a0), (1, .int a1), (2, .int a2), (3, .int v5)] dX2_least_95 5 rfl (by decide) (by decide) (zf_i (zf_r (zf_i (zf_i (zf_i (zf_i zf_0)))))) rfl h (fun v18 h => ?_)
                refine g_goto 18 dX2_least_98 (by decide) ?_
                refine zG.sub [2, 3, 4, 5, 0] rfl ?_
                have e := Option.some.inj h
                exact K4 _ _ e.symm
              · have h := zite_n h c
                refine g_iload dX2_least_92 5 rfl ?_
                refine g_istore_n [(3, .int v6), (5, .int v11), (0, va_rf a0), (1, .int a1), (2, .int a2), (4, .int v6)] dX2_least_94 (by decide) (zf_i (zf_r (zf_i (zf_i (zf_i (zf_i zf_0)))))) rfl ?_
                refine g_iinc (v := (1 : Int32)) [(3, .int v6), (5, .int v11), (0, va_rf a0), (1, .int a1), (2, .int a2)] dX2_least_95 5 rfl (by decide) (by decide) (zf_i (zf_i (zf_r (zf_i (zf_i (zf_i zf_0)))))) rfl h (fun v19 h => ?_)
                refine g_goto 18 dX2_least_98 (by decide) ?_
                refine zG.sub [3, 4, 5, 1, 0] rfl ?_
                have e := Option.some.inj h
                exact K4 _ _ e.symm
        have h := h1
        refine g_icmp_ne 54 dX2_least_47 (by decide) (fun c => ?_) (fun c => ?_)
        · have h := zite_n h c
          refine g_aload_n dX2_least_54 0 rfl ?_
          refine g_iload dX2_least_55 4 rfl ?_
          refine g_iconst (v := (0 : Int32)) dX2_least_57 (by decide) ?_
          refine g_cVRv (rv := fun x : Int32 => Value.int x) [.int v6, .int (0 : Int32)] (fun x0 e0 => ok_X2_sumOf (xl X) g m a0 v6 (0 : Int32) x0 e0) zc2 (by decide) (lw_V q2045 q2047 qs119 q126 q2048) rfl hy_X2_sumOf rfl ⟨by decide, by decide⟩ rfl zc_0 (by decide) dX2_least_58 h (fun v12 h => ?_)
          refine g_aload_n dX2_least_61 0 rfl ?_
          refine g_iload_n dX2_least_62 3 rfl ?_
          refine g_iconst (v := (0 : Int32)) dX2_least_63 (by decide) ?_
          refine g_cVRv (rv := fun x : Int32 => Value.int x) [.int v5, .int (0 : Int32)] (fun x0 e0 => ok_X2_sumOf (xl X) g m a0 v5 (0 : Int32) x0 e0) zc2 (by decide) (lw_V q2045 q2047 qs119 q126 q2048) rfl hy_X2_sumOf rfl ⟨by decide, by decide⟩ rfl (zc_i zc_0) (by decide) dX2_least_64 h (fun v13 h => ?_)
          refine g_isub dX2_least_67 ?_
          refine zG.sub [0, 1, 2, 3, 4] rfl ?_
          have e := Option.some.inj h
          exact K10 _ e.symm
        · have h := zite_p h c
          refine g_iconst (v := (-1 : Int32)) dX2_least_50 (by decide) ?_
          refine g_goto 68 dX2_least_51 (by decide) ?_
          refine zG.sub [0, 1, 2, 3, 4] rfl ?_
          have e := Option.some.inj h
          exact K10 _ e.symm
      · have h := zite_n h c
        refine g_goto 95 dX2_least_42 (by decide) ?_
        refine g_iinc (v := (1 : Int32)) [(0, va_rf a0), (1, .int a1), (2, .int a2), (3, .int v5)] dX2_least_95 4 rfl (by decide) (by decide) (zf_r (zf_i (zf_i (zf_i (zf_i zf_0))))) rfl h (fun v20 h => ?_)
        refine g_goto 18 dX2_least_98 (by decide) ?_
        refine zG.sub [1, 2, 3, 4, 0] rfl ?_
        have e := Option.some.inj h
        exact K4 _ _ e.symm
  · have h := zite_p h c
    refine g_iconst (v := (-1 : Int32)) dX2_least_11 (by decide) ?_
    refine g_iret dX2_least_12 hxt ?_
    have e := Option.some.inj h
    exact Kret _ e
/-! QuiverKinModel.longDivisor -/
def b_X2_longDivisor_6  : Int64 × Int64 → Option ((Int64) ⊕ (Int64 × Int64)) := fun (w4, w5) =>
if w5 = (0 : Int64) then (some (.inl w4))
else ((zlmod w4 w5).bind fun w6 =>
some (.inr (w5, w6)))
def f_X2_longDivisor (a0 : Int64) (a2 : Int64) : Option (Int64) :=
(zLoop b_X2_longDivisor_6 zFuel (a0, a2)).bind fun w2 =>
some (w2)
theorem hy_X2_longDivisor : zHy yX2_longDivisor 2 := ⟨by decide, by decide, by decide +kernel⟩
set_option maxHeartbeats 4000000 in
theorem ok_X2_longDivisor (l : Launch) (g : zGd) (m : zMm) (a0 : Int64) (a2 : Int64) (z0 : Int64) (h : f_X2_longDivisor a0 a2 = some z0) : zCT l yX2_longDivisor cX2_longDivisor 10 (some .long) 1 20 g m [.long a0, .long a2] (some (.long z0)) g m := by
  refine zCT.of (own := "QuiverKinModel") (mn := "longDivisor") (by decide +kernel) rfl rfl (zla_l (zla_l zla_0)) (zls_l (zls_l zls_0)) (by decide) (fun X hxl hxg hxf hxt hxr hxn => ?_)
  have Kret : ∀ (y0 : Int64), y0 = z0 → zRe X g m (some (.long y0)) := by
    intro y0 e; cases e; exact ⟨hxf, hxr, hxn⟩
  subst hxl
  show zG X cX2_longDivisor 10 "QuiverKinModel" "longDivisor" 1 20 0 [(0, .long a0), (2, .long a2)] [] g m
  unfold f_X2_longDivisor at h
  refine g_lload_n dX2_longDivisor_0 0 rfl ?_
  refine g_lstore [(4, .long a0), (0, .long a0), (2, .long a2)] dX2_longDivisor_1 (by decide) (zF_l (zF_l zF_0)) rfl ?_
  refine g_lload_n dX2_longDivisor_3 2 rfl ?_
  refine g_lstore [(6, .long a2), (4, .long a0), (0, .long a0), (2, .long a2)] dX2_longDivisor_4 (by decide) (zF_l (zF_l (zF_l zF_0))) rfl ?_
  obtain ⟨o1, h1, h2⟩ := zB_e h
  have K1 : ∀ (w2 : Int64), o1 = w2 → zG X cX2_longDivisor 10 "QuiverKinModel" "longDivisor" 1 20 31 [(4, .long w2)] [] g m := by
    intro w2 e
    rw [e] at h2
    have h := h2
    refine g_lload dX2_longDivisor_31 0 rfl ?_
    refine g_lret dX2_longDivisor_33 hxt ?_
    have e := Option.some.inj h
    exact Kret _ e
  refine zG.sub [1, 0] rfl ?_
  refine zLoop_ok (Φ := (fun (q : Int64 × Int64) => match q with | (w4, w5) => zG X cX2_longDivisor 10 "QuiverKinModel" "longDivisor" 1 20 6 [(4, .long w4), (6, .long w5)] [] g m)) o1 ?_ zFuel _ h1
  rintro ⟨w4, w5⟩ x3 h hl3 hr3
  unfold b_X2_longDivisor_6 at h
  have K3 : ∀ (w4 : Int64) (w5 : Int64), x3 = .inr (w4, w5) → zG X cX2_longDivisor 10 "QuiverKinModel" "longDivisor" 1 20 6 [(4, .long w4), (6, .long w5)] [] g m := by
    intro w4 w5 e
    exact hr3 _ e
  show zG X cX2_longDivisor 10 "QuiverKinModel" "longDivisor" 1 20 6 [(4, .long w4), (6, .long w5)] [] g m
  refine g_lload dX2_longDivisor_6 1 rfl ?_
  refine g_lconst (v := (0 : Int64)) dX2_longDivisor_8 (by decide) ?_
  refine g_lcmp_eq 31 dX2_longDivisor_9 dX2_longDivisor_10 (by decide) (fun c => ?_) (fun c => ?_)
  · have h := zite_p h c
    refine zG.sub [0] rfl ?_
    have e := Option.some.inj h
    have e := hl3 _ e.symm
    exact K1 _ e.symm
  · have h := zite_n h c
    refine g_lload dX2_longDivisor_13 0 rfl ?_
    refine g_lload dX2_longDivisor_15 1 rfl ?_
    refine g_lrem dX2_longDivisor_17 h (fun w6 h => ?_)
    refine g_lstore [(8, .long w6), (4, .long w4), (6, .long w5)] dX2_longDivisor_18 (by decide) (zF_l (zF_l zF_0)) rfl ?_
    refine g_lload dX2_longDivisor_20 2 rfl ?_
    refine g_lstore [(4, .long w5), (8, .long w6), (6, .long w5)] dX2_longDivisor_22 (by decide) (zF_l (zF_l (zF_l zF_0))) rfl ?_
    refine g_lload dX2_longDivisor_24 1 rfl ?_
    refine g_lstore [(6, .long w6), (4, .long w5), (8, .long w6)] dX2_longDivisor_26 (by decide) (zF_l (zF_l (zF_l zF_0))) rfl ?_
    refine g_goto 6 dX2_longDivisor_28 (by decide) ?_
    refine zG.sub [1, 0] rfl ?_
    have e := Option.some.inj h
    exact K3 _ _ e.symm
/-! QuiverKinModel.waysOf -/
def b_X2_waysOf_17 (a0 : Int32) (a2 : Int32) (v5 : Int32) : Int64 × Int32 → Option ((Int64) ⊕ (Int64 × Int32)) := fun (w9, v10) =>
if (a2 - (1 : Int32)) ≤ v10 then (some (.inl w9))
else (if v5 ≤ v10 then (zlt (w9 * (a0.toInt64)) fun w11 =>
zlt (v10 + (1 : Int32)) fun v12 =>
some (.inr (w11, v12)))
else (zlt (w9 * (((10 : Int32) - a0).toInt64)) fun w13 =>
zlt (v10 + (1 : Int32)) fun v14 =>
some (.inr (w13, v14))))
def b_X2_waysOf_5 (a0 : Int32) (a1 : Int32) (a2 : Int32) : Int64 × Int32 → Option ((Int64) ⊕ (Int64 × Int32)) := fun (w4, v5) =>
if a1 ≤ v5 then (some (.inl w4))
else ((zLoop (b_X2_waysOf_17 a0 a2 v5) zFuel ((1 : Int64), (0 : Int32))).bind fun w7 =>
zlt (w4 + w7) fun w15 =>
zlt (v5 + (1 : Int32)) fun v16 =>
some (.inr (w15, v16)))
def f_X2_waysOf (a0 : Int32) (a1 : Int32) (a2 : Int32) : Option (Int64) :=
(zLoop (b_X2_waysOf_5 a0 a1 a2) zFuel ((0 : Int64), (0 : Int32))).bind fun w2 =>
some (w2)
theorem hy_X2_waysOf : zHy yX2_waysOf 3 := ⟨by decide, by decide, by decide +kernel⟩
set_option maxHeartbeats 4000000 in
theorem ok_X2_waysOf (l : Launch) (g : zGd) (m : zMm) (a0 : Int32) (a1 : Int32) (a2 : Int32) (z0 : Int64) (h : f_X2_waysOf a0 a1 a2 = some z0) : zCT l yX2_waysOf cX2_waysOf 9 (some .long) 1 20 g m [.int a0, .int a1, .int a2] (some (.long z0)) g m := by
  refine zCT.of (own := "QuiverKinModel") (mn := "waysOf") (by decide +kernel) rfl rfl (zla_i (zla_i (zla_i zla_0))) (zls_i (zls_i (zls_i zls_0))) (by decide) (fun X hxl hxg hxf hxt hxr hxn => ?_)
  have Kret : ∀ (y0 : Int64), y0 = z0 → zRe X g m (some (.long y0)) := by
    intro y0 e; cases e; exact ⟨hxf, hxr, hxn⟩
  subst hxl
  show zG X cX2_waysOf 9 "QuiverKinModel" "waysOf" 1 20 0 [(0, .int a0), (1, .int a1), (2, .int a2)] [] g m
  unfold f_X2_waysOf at h
  refine g_lconst (v := (0 : Int64)) dX2_waysOf_0 (by decide) ?_
  refine g_lstore_n [(3, .long (0 : Int64)), (0, .int a0), (1, .int a1), (2, .int a2)] dX2_waysOf_1 (by decide) (zF_i (zF_i (zF_i zF_0))) rfl ?_
  refine g_iconst (v := (0 : Int32)) dX2_waysOf_2 (by decide) ?_
  refine g_istore [(5, .int (0 : Int32)), (3, .long (0 : Int64)), (0, .int a0), (1, .int a1), (2, .int a2)] dX2_waysOf_3 (by decide) (zf_l (zf_i (zf_i (zf_i zf_0)))) rfl ?_
  obtain ⟨o1, h1, h2⟩ := zB_e h
  have K1 : ∀ (w2 : Int64), o1 = w2 → zG X cX2_waysOf 9 "QuiverKinModel" "waysOf" 1 20 64 [(3, .long w2)] [] g m := by
    intro w2 e
    rw [e] at h2
    have h := h2
    refine g_lload_n dX2_waysOf_64 0 rfl ?_
    refine g_lret dX2_waysOf_65 hxt ?_
    have e := Option.some.inj h
    exact Kret _ e
  refine zG.sub [2, 3, 4, 1, 0] rfl ?_
  refine zLoop_ok (Φ := (fun (q : Int64 × Int32) => match q with | (w4, v5) => zG X cX2_waysOf 9 "QuiverKinModel" "waysOf" 1 20 5 [(0, .int a0), (1, .int a1), (2, .int a2), (3, .long w4), (5, .int v5)] [] g m)) o1 ?_ zFuel _ h1
  rintro ⟨w4, v5⟩ x3 h hl3 hr3
  unfold b_X2_waysOf_5 at h
  have K3 : ∀ (w4 : Int64) (v5 : Int32), x3 = .inr (w4, v5) → zG X cX2_waysOf 9 "QuiverKinModel" "waysOf" 1 20 5 [(0, .int a0), (1, .int a1), (2, .int a2), (3, .long w4), (5, .int v5)] [] g m := by
    intro w4 v5 e
    exact hr3 _ e
  show zG X cX2_waysOf 9 "QuiverKinModel" "waysOf" 1 20 5 [(0, .int a0), (1, .int a1), (2, .int a2), (3, .long w4), (5, .int v5)] [] g m
  refine g_iload dX2_waysOf_5 4 rfl ?_
  refine g_iload_n dX2_waysOf_7 1 rfl ?_
  refine g_icmp_ge 64 dX2_waysOf_8 (by decide) (fun c => ?_) (fun c => ?_)
  · have h := zite_p h c
    refine zG.sub [3] rfl ?_
    have e := Option.some.inj h
    have e := hl3 _ e.symm
    exact K1 _ e.symm
  · have h := zite_n h c
    refine g_lconst (v := (1 : Int64)) dX2_waysOf_11 (by decide) ?_
    refine g_lstore [(6, .long (1 : Int64)), (0, .int a0), (1, .int a1), (2, .int a2), (3, .long w4), (5, .int v5)] dX2_waysOf_12 (by decide) (zF_i (zF_i (zF_i (zF_l (zF_i zF_0))))) rfl ?_
    refine g_iconst (v := (0 : Int32)) dX2_waysOf_14 (by decide) ?_
    refine g_istore [(8, .int (0 : Int32)), (6, .long (1 : Int64)), (0, .int a0), (1, .int a1), (2, .int a2), (3, .long w4), (5, .int v5)] dX2_waysOf_15 (by decide) (zf_l (zf_i (zf_i (zf_i (zf_l (zf_i zf_0)))))) rfl ?_
    obtain ⟨o6, h1, h2⟩ := zB_e h
    have K6 : ∀ (w7 : Int64), o6 = w7 → zG X cX2_waysOf 9 "QuiverKinModel" "waysOf" 1 20 53 [(0, .int a0), (1, .int a1), (2, .int a2), (3, .long w4), (5, .int v5), (6, .long w7)] [] g m := by
      intro w7 e
      rw [e] at h2
      have h := h2
      refine g_lload_n dX2_waysOf_53 3 rfl ?_
      refine g_lload dX2_waysOf_54 5 rfl ?_
      refine g_ladd dX2_waysOf_56 ?_
      refine g_letl h (fun w15 h => ?_)
      refine g_lstore_n [(3, .long w15), (0, .int a0), (1, .int a1), (2, .int a2), (5, .int v5), (6, .long w7)] dX2_waysOf_57 (by decide) (zF_i (zF_i (zF_i (zF_l (zF_i (zF_l zF_0)))))) rfl ?_
      refine g_iinc (v := (1 : Int32)) [(3, .long w15), (0, .int a0), (1, .int a1), (2, .int a2), (6, .long w7)] dX2_waysOf_58 4 rfl (by decide) (by decide) (zf_l (zf_i (zf_i (zf_i (zf_i (zf_l zf_0)))))) rfl h (fun v16 h => ?_)
      refine g_goto 5 dX2_waysOf_61 (by decide) ?_
      refine zG.sub [2, 3, 4, 1, 0] rfl ?_
      have e := Option.some.inj h
      exact K3 _ _ e.symm
    refine zG.sub [2, 3, 4, 5, 6, 1, 0] rfl ?_
    refine zLoop_ok (Φ := (fun (q : Int64 × Int32) => match q with | (w9, v10) => zG X cX2_waysOf 9 "QuiverKinModel" "waysOf" 1 20 17 [(0, .int a0), (1, .int a1), (2, .int a2), (3, .long w4), (5, .int v5), (6, .long w9), (8, .int v10)] [] g m)) o6 ?_ zFuel _ h1
    rintro ⟨w9, v10⟩ x8 h hl8 hr8
    unfold b_X2_waysOf_17 at h
    have K8 : ∀ (w9 : Int64) (v10 : Int32), x8 = .inr (w9, v10) → zG X cX2_waysOf 9 "QuiverKinModel" "waysOf" 1 20 17 [(0, .int a0), (1, .int a1), (2, .int a2), (3, .long w4), (5, .int v5), (6, .long w9), (8, .int v10)] [] g m := by
      intro w9 v10 e
      exact hr8 _ e
    show zG X cX2_waysOf 9 "QuiverKinModel" "waysOf" 1 20 17 [(0, .int a0), (1, .int a1), (2, .int a2), (3, .long w4), (5, .int v5), (6, .long w9), (8, .int v10)] [] g m
    refine g_iload dX2_waysOf_17 6 rfl ?_
    refine g_iload_n dX2_waysOf_19 2 rfl ?_
    refine g_iconst (v := (1 : Int32)) dX2_waysOf_20 (by decide) ?_
    refine g_isub dX2_waysOf_21 ?_
    refine g_icmp_ge 53 dX2_waysOf_22 (by decide) (fun c => ?_) (fun c => ?_)
    · have h := zite_p h c
      refine zG.sub [0, 1, 2, 3, 4, 5] rfl ?_
      have e := Option.some.inj h
      have e := hl8 _ e.symm
      exact K6 _ e.symm
    · have h := zite_n h c
      refine g_lload dX2_waysOf_25 5 rfl ?_
      refine g_iload dX2_waysOf_27 6 rfl ?_
      refine g_iload dX2_waysOf_29 4 rfl ?_
      refine g_icmp_ge 42 dX2_waysOf_31 (by decide) (fun c => ?_) (fun c => ?_)
      · have h := zite_p h c
        refine g_iload_n dX2_waysOf_42 0 rfl ?_
        refine g_i2l dX2_waysOf_43 ?_
        refine g_lmul dX2_waysOf_44 ?_
        refine g_letl h (fun w11 h => ?_)
        refine g_lstore [(6, .long w11), (0, .int a0), (1, .int a1), (2, .int a2), (3, .long w4), (5, .int v5), (8, .int v10)] dX2_waysOf_45 (by decide) (zF_i (zF_i (zF_i (zF_l (zF_i (zF_l (zF_i zF_0))))))) rfl ?_
        refine g_iinc (v := (1 : Int32)) [(6, .long w11), (0, .int a0), (1, .int a1), (2, .int a2), (3, .long w4), (5, .int v5)] dX2_waysOf_47 6 rfl (by decide) (by decide) (zf_l (zf_i (zf_i (zf_i (zf_l (zf_i (zf_i zf_0))))))) rfl h (fun v12 h => ?_)
        refine g_goto 17 dX2_waysOf_50 (by decide) ?_
        refine zG.sub [2, 3, 4, 5, 6, 1, 0] rfl ?_
        have e := Option.some.inj h
        exact K8 _ _ e.symm
      · have h := zite_n h c
        refine g_bipush (v := (10 : Int32)) dX2_waysOf_34 (by decide) ?_
        refine g_iload_n dX2_waysOf_36 0 rfl ?_
        refine g_isub dX2_waysOf_37 ?_
        refine g_i2l dX2_waysOf_38 ?_
        refine g_goto 44 dX2_waysOf_39 (by decide) ?_
        refine g_lmul dX2_waysOf_44 ?_
        refine g_letl h (fun w13 h => ?_)
        refine g_lstore [(6, .long w13), (0, .int a0), (1, .int a1), (2, .int a2), (3, .long w4), (5, .int v5), (8, .int v10)] dX2_waysOf_45 (by decide) (zF_i (zF_i (zF_i (zF_l (zF_i (zF_l (zF_i zF_0))))))) rfl ?_
        refine g_iinc (v := (1 : Int32)) [(6, .long w13), (0, .int a0), (1, .int a1), (2, .int a2), (3, .long w4), (5, .int v5)] dX2_waysOf_47 6 rfl (by decide) (by decide) (zf_l (zf_i (zf_i (zf_i (zf_l (zf_i (zf_i zf_0))))))) rfl h (fun v14 h => ?_)
        refine g_goto 17 dX2_waysOf_50 (by decide) ?_
        refine zG.sub [2, 3, 4, 5, 6, 1, 0] rfl ?_
        have e := Option.some.inj h
        exact K8 _ _ e.symm
/-! QuiverKinModel.near -/
def f_X2_near (g : zGd) (m : zMm) (a0 : Option Nat) (a1 : Int32) (a2 : Int32) (a3 : Int32) (a4 : Int32) : Option (Int64) :=
(f_X2_isIn a1 (1 : Int32) (9 : Int32)).bind fun v1 =>
if v1 = 0 then (some ((-1 : Int64)))
else ((f_X2_isIn a3 (1 : Int32) (12 : Int32)).bind fun v2 =>
if v2 = 0 then (some ((-1 : Int64)))
else ((f_X2_isIn a2 (0 : Int32) a3).bind fun v3 =>
if v3 = 0 then (some ((-1 : Int64)))
else ((f_X2_waysOf a1 a2 a3).bind fun w4 =>
(f_X2_waysOf a1 a3 a3).bind fun w5 =>
((if a4 = 0 then (some (w4))
else (some (w5)) : Option (Int64))).bind fun w7 =>
(f_X2_longDivisor w4 w5).bind fun w8 =>
(zldiv w7 w8).bind fun w9 =>
some (w9))))
theorem hy_X2_near : zHy yX2_near 4 := ⟨by decide, by decide, by decide +kernel⟩
set_option maxHeartbeats 4000000 in
theorem ok_X2_near (l : Launch) (g : zGd) (m : zMm) (a0 : Option Nat) (a1 : Int32) (a2 : Int32) (a3 : Int32) (a4 : Int32) (z0 : Int64) (h : f_X2_near g m a0 a1 a2 a3 a4 = some z0) : zCT l yX2_near cX2_near 9 (some .long) 2 49 g m [va_rf a0, .int a1, .int a2, .int a3, .int a4] (some (.long z0)) g m := by
  refine zCT.of (own := "QuiverKinModel") (mn := "near") (by decide +kernel) rfl rfl (zla_r (zla_i (zla_i (zla_i (zla_i zla_0))))) (zls_r (zls_i (zls_i (zls_i (zls_i zls_0))))) (by decide) (fun X hxl hxg hxf hxt hxr hxn => ?_)
  have Kret : ∀ (y0 : Int64), y0 = z0 → zRe X g m (some (.long y0)) := by
    intro y0 e; cases e; exact ⟨hxf, hxr, hxn⟩
  subst hxl
  show zG X cX2_near 9 "QuiverKinModel" "near" 2 49 0 [(0, va_rf a0), (1, .int a1), (2, .int a2), (3, .int a3), (4, .int a4)] [] g m
  unfold f_X2_near at h
  refine g_iload_n dX2_near_0 1 rfl ?_
  refine g_iconst (v := (1 : Int32)) dX2_near_1 (by decide) ?_
  refine g_bipush (v := (9 : Int32)) dX2_near_2 (by decide) ?_
  refine g_cSRv (rv := fun x : Int32 => Value.int x) [.int a1, .int (1 : Int32), .int (9 : Int32)] (fun x0 e0 => ok_X2_isIn (xl X) g m a1 (1 : Int32) (9 : Int32) x0 e0) (lw_S q1534 q1535 q126 q1536) hy_X2_isIn rfl ⟨by decide, by decide⟩ rfl zc_0 (by decide) dX2_near_4 h (fun v1 h => ?_)
  refine g_if_eq 29 dX2_near_7 (by decide) (fun c => ?_) (fun c => ?_)
  · have h := zite_p h c
    refine g_ldc2 (v := (-1 : Int64)) q2056 dX2_near_29 ?_
    refine g_lret dX2_near_32 hxt ?_
    have e := Option.some.inj h
    exact Kret _ e
  · have h := zite_n h c
    refine g_iload_n dX2_near_10 3 rfl ?_
    refine g_iconst (v := (1 : Int32)) dX2_near_11 (by decide) ?_
    refine g_bipush (v := (12 : Int32)) dX2_near_12 (by decide) ?_
    refine g_cSRv (rv := fun x : Int32 => Value.int x) [.int a3, .int (1 : Int32), .int (12 : Int32)] (fun x0 e0 => ok_X2_isIn (xl X) g m a3 (1 : Int32) (12 : Int32) x0 e0) (lw_S q1534 q1535 q126 q1536) hy_X2_isIn rfl ⟨by decide, by decide⟩ rfl zc_0 (by decide) dX2_near_14 h (fun v2 h => ?_)
    refine g_if_eq 29 dX2_near_17 (by decide) (fun c => ?_) (fun c => ?_)
    · have h := zite_p h c
      refine g_ldc2 (v := (-1 : Int64)) q2056 dX2_near_29 ?_
      refine g_lret dX2_near_32 hxt ?_
      have e := Option.some.inj h
      exact Kret _ e
    · have h := zite_n h c
      refine g_iload_n dX2_near_20 2 rfl ?_
      refine g_iconst (v := (0 : Int32)) dX2_near_21 (by decide) ?_
      refine g_iload_n dX2_near_22 3 rfl ?_
      refine g_cSRv (rv := fun x : Int32 => Value.int x) [.int a2, .int (0 : Int32), .int a3] (fun x0 e0 => ok_X2_isIn (xl X) g m a2 (0 : Int32) a3 x0 e0) (lw_S q1534 q1535 q126 q1536) hy_X2_isIn rfl ⟨by decide, by decide⟩ rfl zc_0 (by decide) dX2_near_23 h (fun v3 h => ?_)
      refine g_if_ne 33 dX2_near_26 (by decide) (fun c => ?_) (fun c => ?_)
      · have h := zite_n h c
        refine g_iload_n dX2_near_33 1 rfl ?_
        refine g_iload_n dX2_near_34 2 rfl ?_
        refine g_iload_n dX2_near_35 3 rfl ?_
        refine g_cSRv (rv := fun x : Int64 => Value.long x) [.int a1, .int a2, .int a3] (fun x0 e0 => ok_X2_waysOf (xl X) g m a1 a2 a3 x0 e0) (lw_S q2057 q2058 q126 q2059) hy_X2_waysOf rfl ⟨by decide, by decide⟩ rfl zc_0 (by decide) dX2_near_36 h (fun w4 h => ?_)
        refine g_lstore [(5, .long w4), (0, va_rf a0), (1, .int a1), (2, .int a2), (3, .int a3), (4, .int a4)] dX2_near_39 (by decide) (zF_r (zF_i (zF_i (zF_i (zF_i zF_0))))) rfl ?_
        refine g_iload_n dX2_near_41 2 rfl ?_
        refine g_iload_n dX2_near_42 4 rfl ?_
        refine g_iload_n dX2_near_43 4 rfl ?_
        refine g_cSRv (rv := fun x : Int64 => Value.long x) [.int a1, .int a3, .int a3] (fun x0 e0 => ok_X2_waysOf (xl X) g m a1 a3 a3 x0 e0) (lw_S q2057 q2058 q126 q2059) hy_X2_waysOf rfl ⟨by decide, by decide⟩ rfl zc_0 (by decide) dX2_near_44 h (fun w5 h => ?_)
        refine g_lstore [(7, .long w5), (5, .long w4), (0, va_rf a0), (1, .int a1), (2, .int a2), (3, .int a3), (4, .int a4)] dX2_near_47 (by decide) (zF_l (zF_r (zF_i (zF_i (zF_i (zF_i zF_0)))))) rfl ?_
        refine g_iload dX2_near_49 6 rfl ?_
        obtain ⟨o6, h1, h2⟩ := zB_e h
        have K6 : ∀ (w7 : Int64), o6 = w7 → zG X cX2_near 9 "QuiverKinModel" "near" 2 49 61 [(5, .long w4), (7, .long w5)] [.long w7] g m := by
          intro w7 e
          rw [e] at h2
          have h := h2
          refine g_lload dX2_near_61 0 rfl ?_
          refine g_lload dX2_near_63 1 rfl ?_
          refine g_cSRv (rv := fun x : Int64 => Value.long x) [.long w4, .long w5] (fun x0 e0 => ok_X2_longDivisor (xl X) g m w4 w5 x0 e0) (lw_S q2060 q2061 q126 q2062) hy_X2_longDivisor rfl ⟨by decide, by decide⟩ rfl (zc_l zc_0) (by decide) dX2_near_65 h (fun w8 h => ?_)
          refine g_ldiv dX2_near_68 h (fun w9 h => ?_)
          refine g_lret dX2_near_69 hxt ?_
          have e := Option.some.inj h
          exact Kret _ e
        have h := h1
        refine g_if_eq 59 dX2_near_51 (by decide) (fun c => ?_) (fun c => ?_)
        · have h := zite_p h c
          refine g_lload dX2_near_59 1 rfl ?_
          refine zG.sub [1, 0] rfl ?_
          have e := Option.some.inj h
          exact K6 _ e.symm
        · have h := zite_n h c
          refine g_lload dX2_near_54 0 rfl ?_
          refine g_goto 61 dX2_near_56 (by decide) ?_
          refine zG.sub [1, 0] rfl ?_
          have e := Option.some.inj h
          exact K6 _ e.symm
      · have h := zite_p h c
        refine g_ldc2 (v := (-1 : Int64)) q2056 dX2_near_29 ?_
        refine g_lret dX2_near_32 hxt ?_
        have e := Option.some.inj h
        exact Kret _ e
/-! QuiverKinModel.rowOf -/
def b_X2_rowOf_4 (a1 : Int32) : Int32 × Int32 → Option ((Int32) ⊕ (Int32 × Int32)) := fun (v4, v5) =>
if v5 ≤ a1 then (some (.inl v4))
else (zlt (v4 / (6 : Int32)) fun v6 =>
zlt (v5 + (-1 : Int32)) fun v7 =>
some (.inr (v6, v7)))
def f_X2_rowOf (a0 : Int32) (a1 : Int32) : Option (Int32) :=
(zLoop (b_X2_rowOf_4 a1) zFuel (a0, (4 : Int32))).bind fun v2 =>
some ((zrem v2 (6 : Int32)))
theorem hy_X2_rowOf : zHy yX2_rowOf 2 := ⟨by decide, by decide, by decide +kernel⟩
set_option maxHeartbeats 4000000 in
theorem ok_X2_rowOf (l : Launch) (g : zGd) (m : zMm) (a0 : Int32) (a1 : Int32) (z0 : Int32) (h : f_X2_rowOf a0 a1 = some z0) : zCT l yX2_rowOf cX2_rowOf 4 (some .int) 1 20 g m [.int a0, .int a1] (some (.int z0)) g m := by
  refine zCT.of (own := "QuiverKinModel") (mn := "rowOf") (by decide +kernel) rfl rfl (zla_i (zla_i zla_0)) (zls_i (zls_i zls_0)) (by decide) (fun X hxl hxg hxf hxt hxr hxn => ?_)
  have Kret : ∀ (y0 : Int32), y0 = z0 → zRe X g m (some (.int y0)) := by
    intro y0 e; cases e; exact ⟨hxf, hxr, hxn⟩
  subst hxl
  show zG X cX2_rowOf 4 "QuiverKinModel" "rowOf" 1 20 0 [(0, .int a0), (1, .int a1)] [] g m
  unfold f_X2_rowOf at h
  refine g_iload_n dX2_rowOf_0 0 rfl ?_
  refine g_istore_n [(2, .int a0), (0, .int a0), (1, .int a1)] dX2_rowOf_1 (by decide) (zf_i (zf_i zf_0)) rfl ?_
  refine g_iconst (v := (4 : Int32)) dX2_rowOf_2 (by decide) ?_
  refine g_istore_n [(3, .int (4 : Int32)), (2, .int a0), (0, .int a0), (1, .int a1)] dX2_rowOf_3 (by decide) (zf_i (zf_i (zf_i zf_0))) rfl ?_
  obtain ⟨o1, h1, h2⟩ := zB_e h
  have K1 : ∀ (v2 : Int32), o1 = v2 → zG X cX2_rowOf 4 "QuiverKinModel" "rowOf" 1 20 20 [(2, .int v2)] [] g m := by
    intro v2 e
    rw [e] at h2
    have h := h2
    refine g_iload_n dX2_rowOf_20 0 rfl ?_
    refine g_bipush (v := (6 : Int32)) dX2_rowOf_21 (by decide) ?_
    refine g_iremC dX2_rowOf_23 (by decide) ?_
    refine g_iret dX2_rowOf_24 hxt ?_
    have e := Option.some.inj h
    exact Kret _ e
  refine zG.sub [3, 1, 0] rfl ?_
  refine zLoop_ok (Φ := (fun (q : Int32 × Int32) => match q with | (v4, v5) => zG X cX2_rowOf 4 "QuiverKinModel" "rowOf" 1 20 4 [(1, .int a1), (2, .int v4), (3, .int v5)] [] g m)) o1 ?_ zFuel _ h1
  rintro ⟨v4, v5⟩ x3 h hl3 hr3
  unfold b_X2_rowOf_4 at h
  have K3 : ∀ (v4 : Int32) (v5 : Int32), x3 = .inr (v4, v5) → zG X cX2_rowOf 4 "QuiverKinModel" "rowOf" 1 20 4 [(1, .int a1), (2, .int v4), (3, .int v5)] [] g m := by
    intro v4 v5 e
    exact hr3 _ e
  show zG X cX2_rowOf 4 "QuiverKinModel" "rowOf" 1 20 4 [(1, .int a1), (2, .int v4), (3, .int v5)] [] g m
  refine g_iload_n dX2_rowOf_4 2 rfl ?_
  refine g_iload_n dX2_rowOf_5 0 rfl ?_
  refine g_icmp_le 20 dX2_rowOf_6 (by decide) (fun c => ?_) (fun c => ?_)
  · have h := zite_p h c
    refine zG.sub [1] rfl ?_
    have e := Option.some.inj h
    have e := hl3 _ e.symm
    exact K1 _ e.symm
  · have h := zite_n h c
    refine g_iload_n dX2_rowOf_9 1 rfl ?_
    refine g_bipush (v := (6 : Int32)) dX2_rowOf_10 (by decide) ?_
    refine g_idivC dX2_rowOf_12 (by decide) ?_
    refine g_leti h (fun v6 h => ?_)
    refine g_istore_n [(2, .int v6), (1, .int a1), (3, .int v5)] dX2_rowOf_13 (by decide) (zf_i (zf_i (zf_i zf_0))) rfl ?_
    refine g_iinc (v := (-1 : Int32)) [(2, .int v6), (1, .int a1)] dX2_rowOf_14 2 rfl (by decide) (by decide) (zf_i (zf_i (zf_i zf_0))) rfl h (fun v7 h => ?_)
    refine g_goto 4 dX2_rowOf_17 (by decide) ?_
    refine zG.sub [2, 1, 0] rfl ?_
    have e := Option.some.inj h
    exact K3 _ _ e.symm
/-! QuiverKinModel.bitten -/
def b_X2_bitten_5 (a0 : Int32) (a1 : Int32) (a2 : Int32) : Int32 × Int32 → Option ((Int32) ⊕ (Int32 × Int32)) := fun (v4, v5) =>
if (5 : Int32) ≤ v5 then (some (.inl v4))
else (zEx (σ := Unit) (if v5 < a1 then (some (.inr ()))
else ((f_X2_rowOf a0 v5).bind fun v7 =>
if v7 ≤ a2 then (some (.inr ()))
else (zlt (((6 : Int32) * v4) + a2) fun v8 =>
zlt (v5 + (1 : Int32)) fun v9 =>
some (.inl (.inr (v8, v9)))))) fun _ =>
(f_X2_rowOf a0 v5).bind fun v10 =>
zlt (((6 : Int32) * v4) + v10) fun v11 =>
zlt (v5 + (1 : Int32)) fun v12 =>
some (.inr (v11, v12)))
def f_X2_bitten (a0 : Int32) (a1 : Int32) (a2 : Int32) : Option (Int32) :=
(zLoop (b_X2_bitten_5 a0 a1 a2) zFuel ((0 : Int32), (0 : Int32))).bind fun v2 =>
some (v2)
theorem hy_X2_bitten : zHy yX2_bitten 3 := ⟨by decide, by decide, by decide +kernel⟩
set_option maxHeartbeats 4000000 in
theorem ok_X2_bitten (l : Launch) (g : zGd) (m : zMm) (a0 : Int32) (a1 : Int32) (a2 : Int32) (z0 : Int32) (h : f_X2_bitten a0 a1 a2 = some z0) : zCT l yX2_bitten cX2_bitten 5 (some .int) 2 43 g m [.int a0, .int a1, .int a2] (some (.int z0)) g m := by
  refine zCT.of (own := "QuiverKinModel") (mn := "bitten") (by decide +kernel) rfl rfl (zla_i (zla_i (zla_i zla_0))) (zls_i (zls_i (zls_i zls_0))) (by decide) (fun X hxl hxg hxf hxt hxr hxn => ?_)
  have Kret : ∀ (y0 : Int32), y0 = z0 → zRe X g m (some (.int y0)) := by
    intro y0 e; cases e; exact ⟨hxf, hxr, hxn⟩
  subst hxl
  show zG X cX2_bitten 5 "QuiverKinModel" "bitten" 2 43 0 [(0, .int a0), (1, .int a1), (2, .int a2)] [] g m
  unfold f_X2_bitten at h
  refine g_iconst (v := (0 : Int32)) dX2_bitten_0 (by decide) ?_
  refine g_istore_n [(3, .int (0 : Int32)), (0, .int a0), (1, .int a1), (2, .int a2)] dX2_bitten_1 (by decide) (zf_i (zf_i (zf_i zf_0))) rfl ?_
  refine g_iconst (v := (0 : Int32)) dX2_bitten_2 (by decide) ?_
  refine g_istore [(4, .int (0 : Int32)), (3, .int (0 : Int32)), (0, .int a0), (1, .int a1), (2, .int a2)] dX2_bitten_3 (by decide) (zf_i (zf_i (zf_i (zf_i zf_0)))) rfl ?_
  obtain ⟨o1, h1, h2⟩ := zB_e h
  have K1 : ∀ (v2 : Int32), o1 = v2 → zG X cX2_bitten 5 "QuiverKinModel" "bitten" 2 43 49 [(3, .int v2)] [] g m := by
    intro v2 e
    rw [e] at h2
    have h := h2
    refine g_iload_n dX2_bitten_49 0 rfl ?_
    refine g_iret dX2_bitten_50 hxt ?_
    have e := Option.some.inj h
    exact Kret _ e
  refine zG.sub [2, 3, 4, 1, 0] rfl ?_
  refine zLoop_ok (Φ := (fun (q : Int32 × Int32) => match q with | (v4, v5) => zG X cX2_bitten 5 "QuiverKinModel" "bitten" 2 43 5 [(0, .int a0), (1, .int a1), (2, .int a2), (3, .int v4), (4, .int v5)] [] g m)) o1 ?_ zFuel _ h1
  rintro ⟨v4, v5⟩ x3 h hl3 hr3
  unfold b_X2_bitten_5 at h
  have K3 : ∀ (v4 : Int32) (v5 : Int32), x3 = .inr (v4, v5) → zG X cX2_bitten 5 "QuiverKinModel" "bitten" 2 43 5 [(0, .int a0), (1, .int a1), (2, .int a2), (3, .int v4), (4, .int v5)] [] g m := by
    intro v4 v5 e
    exact hr3 _ e
  show zG X cX2_bitten 5 "QuiverKinModel" "bitten" 2 43 5 [(0, .int a0), (1, .int a1), (2, .int a2), (3, .int v4), (4, .int v5)] [] g m
  refine g_iload dX2_bitten_5 4 rfl ?_
  refine g_iconst (v := (5 : Int32)) dX2_bitten_7 (by decide) ?_
  refine g_icmp_ge 49 dX2_bitten_8 (by decide) (fun c => ?_) (fun c => ?_)
  · have h := zite_p h c
    refine zG.sub [3] rfl ?_
    have e := Option.some.inj h
    have e := hl3 _ e.symm
    exact K1 _ e.symm
  · have h := zite_n h c
    refine g_bipush (v := (6 : Int32)) dX2_bitten_11 (by decide) ?_
    refine g_iload_n dX2_bitten_13 3 rfl ?_
    refine g_imul dX2_bitten_14 ?_
    refine g_iload dX2_bitten_15 4 rfl ?_
    refine g_iload_n dX2_bitten_17 1 rfl ?_
    obtain ⟨o6, h1, hl6, hr6⟩ := zEx_e h
    have K6 : o6 = .inr () → zG X cX2_bitten 5 "QuiverKinModel" "bitten" 2 43 35 [(0, .int a0), (1, .int a1), (2, .int a2), (4, .int v5)] [.int ((6 : Int32) * v4)] g m := by
      intro e
      have h := hr6 _ e
      refine g_iload_n dX2_bitten_35 0 rfl ?_
      refine g_iload dX2_bitten_36 3 rfl ?_
      refine g_cSRv (rv := fun x : Int32 => Value.int x) [.int a0, .int v5] (fun x0 e0 => ok_X2_rowOf (xl X) g m a0 v5 x0 e0) (lw_S q2074 q2075 q126 q2076) hy_X2_rowOf rfl ⟨by decide, by decide⟩ rfl (zc_i zc_0) (by decide) dX2_bitten_38 h (fun v10 h => ?_)
      refine g_iadd dX2_bitten_41 ?_
      refine g_leti h (fun v11 h => ?_)
      refine g_istore_n [(3, .int v11), (0, .int a0), (1, .int a1), (2, .int a2), (4, .int v5)] dX2_bitten_42 (by decide) (zf_i (zf_i (zf_i (zf_i zf_0)))) rfl ?_
      refine g_iinc (v := (1 : Int32)) [(3, .int v11), (0, .int a0), (1, .int a1), (2, .int a2)] dX2_bitten_43 4 rfl (by decide) (by decide) (zf_i (zf_i (zf_i (zf_i (zf_i zf_0))))) rfl h (fun v12 h => ?_)
      refine g_goto 5 dX2_bitten_46 (by decide) ?_
      refine zG.sub [2, 3, 4, 1, 0] rfl ?_
      have e := Option.some.inj h
      exact K3 _ _ e.symm
    have h := h1
    refine g_icmp_lt 35 dX2_bitten_18 (by decide) (fun c => ?_) (fun c => ?_)
    · have h := zite_p h c
      refine zG.sub [0, 1, 2, 4] rfl ?_
      have e := Option.some.inj h
      exact K6 e.symm
    · have h := zite_n h c
      refine g_iload_n dX2_bitten_21 0 rfl ?_
      refine g_iload dX2_bitten_22 4 rfl ?_
      refine g_cSRv (rv := fun x : Int32 => Value.int x) [.int a0, .int v5] (fun x0 e0 => ok_X2_rowOf (xl X) g m a0 v5 x0 e0) (lw_S q2074 q2075 q126 q2076) hy_X2_rowOf rfl ⟨by decide, by decide⟩ rfl (zc_i zc_0) (by decide) dX2_bitten_24 h (fun v7 h => ?_)
      refine g_iload_n dX2_bitten_27 2 rfl ?_
      refine g_icmp_le 35 dX2_bitten_28 (by decide) (fun c => ?_) (fun c => ?_)
      · have h := zite_p h c
        refine zG.sub [0, 1, 2, 4] rfl ?_
        have e := Option.some.inj h
        exact K6 e.symm
      · have h := zite_n h c
        refine g_iload_n dX2_bitten_31 2 rfl ?_
        refine g_goto 41 dX2_bitten_32 (by decide) ?_
        refine g_iadd dX2_bitten_41 ?_
        refine g_leti h (fun v8 h => ?_)
        refine g_istore_n [(3, .int v8), (0, .int a0), (1, .int a1), (2, .int a2), (4, .int v5)] dX2_bitten_42 (by decide) (zf_i (zf_i (zf_i (zf_i (zf_i zf_0))))) rfl ?_
        refine g_iinc (v := (1 : Int32)) [(3, .int v8), (0, .int a0), (1, .int a1), (2, .int a2)] dX2_bitten_43 4 rfl (by decide) (by decide) (zf_i (zf_i (zf_i (zf_i (zf_i zf_0))))) rfl h (fun v9 h => ?_)
        refine g_goto 5 dX2_bitten_46 (by decide) ?_
        refine zG.sub [2, 3, 4, 1, 0] rfl ?_
        have e := Option.some.inj h
        have e := hl6 _ e.symm
        exact K3 _ _ e.symm
/-! QuiverKinModel.biteOf -/
def b_X2_biteOf_9 (g : zGd) (m : zMm) (a0 : Option Nat) (a1 : Int32) (v3 : Int32) : Int32 → Option ((((((((Int32) ⊕ (Unit))) ⊕ (Int32))) ⊕ (Unit))) ⊕ (Int32)) := fun v6 =>
(f_X2_rowOf a1 v3).bind fun v7 =>
if v7 ≤ v6 then (some (.inl (.inr ())))
else ((zgr g m 2 38 a0).bind fun r8 =>
(f_X2_bitten a1 v3 v6).bind fun v9 =>
(zald 103 g m r8 v9).bind fun v10 =>
if v10 = 0 then (some (.inl (.inl (.inl (.inl ((((5 : Int32) * v3) + v6)))))))
else (zlt (v6 + (1 : Int32)) fun v11 =>
some (.inr v11)))
def b_X2_biteOf_2 (g : zGd) (m : zMm) (a0 : Option Nat) (a1 : Int32) : Int32 → Option ((((Int32) ⊕ (Unit))) ⊕ (Int32)) := fun v3 =>
if (5 : Int32) ≤ v3 then (some (.inl (.inr ())))
else (zEx (σ := Unit) (zLoop (b_X2_biteOf_9 g m a0 a1 v3) zFuel (0 : Int32)) fun _ =>
zlt (v3 + (1 : Int32)) fun v12 =>
some (.inr v12))
def f_X2_biteOf (g : zGd) (m : zMm) (a0 : Option Nat) (a1 : Int32) : Option (Int32) :=
zEx (σ := Unit) (zLoop (b_X2_biteOf_2 g m a0 a1) zFuel (0 : Int32)) fun _ =>
some ((-1 : Int32))
theorem hy_X2_biteOf : zHy yX2_biteOf 1 := ⟨by decide, by decide, by decide +kernel⟩
set_option maxHeartbeats 4000000 in
theorem ok_X2_biteOf (l : Launch) (g : zGd) (m : zMm) (a0 : Option Nat) (a1 : Int32) (z0 : Int32) (h : f_X2_biteOf g m a0 a1 = some z0) : zCT l yX2_biteOf cX2_biteOf 4 (some .int) 3 67 g m [va_rf a0, .int a1] (some (.int z0)) g m := by
  refine zCT.of (own := "QuiverKinModel") (mn := "biteOf") (by decide +kernel) rfl rfl (zla_r (zla_i zla_0)) (zls_r (zls_i zls_0)) (by decide) (fun X hxl hxg hxf hxt hxr hxn => ?_)
  have Kret : ∀ (y0 : Int32), y0 = z0 → zRe X g m (some (.int y0)) := by
    intro y0 e; cases e; exact ⟨hxf, hxr, hxn⟩
  subst hxl
  show zG X cX2_biteOf 4 "QuiverKinModel" "biteOf" 3 67 0 [(0, va_rf a0), (1, .int a1)] [] g m
  unfold f_X2_biteOf at h
  refine g_iconst (v := (0 : Int32)) dX2_biteOf_0 (by decide) ?_
  refine g_istore_n [(2, .int (0 : Int32)), (0, va_rf a0), (1, .int a1)] dX2_biteOf_1 (by decide) (zf_r (zf_i zf_0)) rfl ?_
  obtain ⟨o1, h1, hl1, hr1⟩ := zEx_e h
  have K1 : o1 = .inr () → zG X cX2_biteOf 4 "QuiverKinModel" "biteOf" 3 67 50 [] [] g m := by
    intro e
    have h := hr1 _ e
    refine g_iconst (v := (-1 : Int32)) dX2_biteOf_50 (by decide) ?_
    refine g_iret dX2_biteOf_51 hxt ?_
    have e := Option.some.inj h
    exact Kret _ e
  refine zG.sub [1, 2, 0] rfl ?_
  refine zLoop_ok (Φ := (fun v3 : Int32 => zG X cX2_biteOf 4 "QuiverKinModel" "biteOf" 3 67 2 [(0, va_rf a0), (1, .int a1), (2, .int v3)] [] g m)) o1 ?_ zFuel _ h1
  rintro v3 x2 h hl2 hr2
  unfold b_X2_biteOf_2 at h
  have K2 : ∀ (v3 : Int32), x2 = .inr v3 → zG X cX2_biteOf 4 "QuiverKinModel" "biteOf" 3 67 2 [(0, va_rf a0), (1, .int a1), (2, .int v3)] [] g m := by
    intro v3 e
    exact hr2 _ e
  show zG X cX2_biteOf 4 "QuiverKinModel" "biteOf" 3 67 2 [(0, va_rf a0), (1, .int a1), (2, .int v3)] [] g m
  refine g_iload_n dX2_biteOf_2 2 rfl ?_
  refine g_iconst (v := (5 : Int32)) dX2_biteOf_3 (by decide) ?_
  refine g_icmp_ge 50 dX2_biteOf_4 (by decide) (fun c => ?_) (fun c => ?_)
  · have h := zite_p h c
    refine zG.sub [] rfl ?_
    have e := Option.some.inj h
    have e := hl2 _ e.symm
    exact K1 e.symm
  · have h := zite_n h c
    refine g_iconst (v := (0 : Int32)) dX2_biteOf_7 (by decide) ?_
    refine g_istore_n [(3, .int (0 : Int32)), (0, va_rf a0), (1, .int a1), (2, .int v3)] dX2_biteOf_8 (by decide) (zf_r (zf_i (zf_i zf_0))) rfl ?_
    obtain ⟨o4, h1, hl4, hr4⟩ := zEx_e h
    have K4 : o4 = .inr () → zG X cX2_biteOf 4 "QuiverKinModel" "biteOf" 3 67 44 [(0, va_rf a0), (1, .int a1), (2, .int v3)] [] g m := by
      intro e
      have h := hr4 _ e
      refine g_iinc (v := (1 : Int32)) [(0, va_rf a0), (1, .int a1)] dX2_biteOf_44 2 rfl (by decide) (by decide) (zf_r (zf_i (zf_i zf_0))) rfl h (fun v12 h => ?_)
      refine g_goto 2 dX2_biteOf_47 (by decide) ?_
      refine zG.sub [1, 2, 0] rfl ?_
      have e := Option.some.inj h
      exact K2 _ e.symm
    refine zG.sub [1, 2, 3, 0] rfl ?_
    refine zLoop_ok (Φ := (fun v6 : Int32 => zG X cX2_biteOf 4 "QuiverKinModel" "biteOf" 3 67 9 [(0, va_rf a0), (1, .int a1), (2, .int v3), (3, .int v6)] [] g m)) o4 ?_ zFuel _ h1
    rintro v6 x5 h hl5 hr5
    unfold b_X2_biteOf_9 at h
    have K5 : ∀ (v6 : Int32), x5 = .inr v6 → zG X cX2_biteOf 4 "QuiverKinModel" "biteOf" 3 67 9 [(0, va_rf a0), (1, .int a1), (2, .int v3), (3, .int v6)] [] g m := by
      intro v6 e
      exact hr5 _ e
    show zG X cX2_biteOf 4 "QuiverKinModel" "biteOf" 3 67 9 [(0, va_rf a0), (1, .int a1), (2, .int v3), (3, .int v6)] [] g m
    refine g_iload_n dX2_biteOf_9 3 rfl ?_
    refine g_iload_n dX2_biteOf_10 1 rfl ?_
    refine g_iload_n dX2_biteOf_11 2 rfl ?_
    refine g_cSRv (rv := fun x : Int32 => Value.int x) [.int a1, .int v3] (fun x0 e0 => ok_X2_rowOf (xl X) g m a1 v3 x0 e0) (lw_S q2074 q2075 q126 q2076) hy_X2_rowOf rfl ⟨by decide, by decide⟩ rfl (zc_i zc_0) (by decide) dX2_biteOf_12 h (fun v7 h => ?_)
    refine g_icmp_ge 44 dX2_biteOf_15 (by decide) (fun c => ?_) (fun c => ?_)
    · have h := zite_p h c
      refine zG.sub [0, 1, 2] rfl ?_
      have e := Option.some.inj h
      have e := hl5 _ e.symm
      exact K4 e.symm
    · have h := zite_n h c
      refine g_aload_n dX2_biteOf_18 0 rfl ?_
      refine gf_r zfd_2_38 q1448  (fun _ h9 => h9) dX2_biteOf_19 h (fun r8 h => ?_)
      refine g_iload_n dX2_biteOf_22 1 rfl ?_
      refine g_iload_n dX2_biteOf_23 2 rfl ?_
      refine g_iload_n dX2_biteOf_24 3 rfl ?_
      refine g_cSRv (rv := fun x : Int32 => Value.int x) [.int a1, .int v3, .int v6] (fun x0 e0 => ok_X2_bitten (xl X) g m a1 v3 v6 x0 e0) (lw_S q2081 q2082 q126 q2083) hy_X2_bitten rfl ⟨by decide, by decide⟩ rfl (zc_r zc_0) (by decide) dX2_biteOf_25 h (fun v9 h => ?_)
      refine g_zald dX2_biteOf_28 h (fun v10 h => ?_)
      refine g_if_ne 38 dX2_biteOf_29 (by decide) (fun c => ?_) (fun c => ?_)
      · have h := zite_n h c
        refine g_iinc (v := (1 : Int32)) [(0, va_rf a0), (1, .int a1), (2, .int v3)] dX2_biteOf_38 3 rfl (by decide) (by decide) (zf_r (zf_i (zf_i (zf_i zf_0)))) rfl h (fun v11 h => ?_)
        refine g_goto 9 dX2_biteOf_41 (by decide) ?_
        refine zG.sub [1, 2, 3, 0] rfl ?_
        have e := Option.some.inj h
        exact K5 _ e.symm
      · have h := zite_p h c
        refine g_iconst (v := (5 : Int32)) dX2_biteOf_32 (by decide) ?_
        refine g_iload_n dX2_biteOf_33 2 rfl ?_
        refine g_imul dX2_biteOf_34 ?_
        refine g_iload_n dX2_biteOf_35 3 rfl ?_
        refine g_iadd dX2_biteOf_36 ?_
        refine g_iret dX2_biteOf_37 hxt ?_
        have e := Option.some.inj h
        have e := hl5 _ e.symm
        have e := hl4 _ e.symm
        have e := hl2 _ e.symm
        have e := hl1 _ e.symm
        exact Kret _ e
/-! QuiverKinModel.isShape -/
def b_X2_isShape_2 (a0 : Int32) : Int32 → Option ((((Int32) ⊕ (Unit))) ⊕ (Int32)) := fun v3 =>
if (5 : Int32) ≤ v3 then (some (.inl (.inr ())))
else ((f_X2_rowOf a0 v3).bind fun v4 =>
(f_X2_rowOf a0 (v3 - (1 : Int32))).bind fun v5 =>
if v4 ≤ v5 then (zlt (v3 + (1 : Int32)) fun v6 =>
some (.inr v6))
else (some (.inl (.inl ((0 : Int32))))))
def f_X2_isShape (a0 : Int32) : Option (Int32) :=
zEx (σ := Unit) (zLoop (b_X2_isShape_2 a0) zFuel (1 : Int32)) fun _ =>
some ((1 : Int32))
theorem hy_X2_isShape : zHy yX2_isShape 1 := ⟨by decide, by decide, by decide +kernel⟩
set_option maxHeartbeats 4000000 in
theorem ok_X2_isShape (l : Launch) (g : zGd) (m : zMm) (a0 : Int32) (z0 : Int32) (h : f_X2_isShape a0 = some z0) : zCT l yX2_isShape cX2_isShape 2 (some .boolean) 2 43 g m [.int a0] (some (.int z0)) g m := by
  refine zCT.of (own := "QuiverKinModel") (mn := "isShape") (by decide +kernel) rfl rfl (zla_i zla_0) (zls_i zls_0) (by decide) (fun X hxl hxg hxf hxt hxr hxn => ?_)
  have Kret : ∀ (y0 : Int32), y0 = z0 → zRe X g m (some (.int y0)) := by
    intro y0 e; cases e; exact ⟨hxf, hxr, hxn⟩
  subst hxl
  show zG X cX2_isShape 2 "QuiverKinModel" "isShape" 2 43 0 [(0, .int a0)] [] g m
  unfold f_X2_isShape at h
  refine g_iconst (v := (1 : Int32)) dX2_isShape_0 (by decide) ?_
  refine g_istore_n [(1, .int (1 : Int32)), (0, .int a0)] dX2_isShape_1 (by decide) (zf_i zf_0) rfl ?_
  obtain ⟨o1, h1, hl1, hr1⟩ := zEx_e h
  have K1 : o1 = .inr () → zG X cX2_isShape 2 "QuiverKinModel" "isShape" 2 43 30 [] [] g m := by
    intro e
    have h := hr1 _ e
    refine g_iconst (v := (1 : Int32)) dX2_isShape_30 (by decide) ?_
    refine g_zret dX2_isShape_31 hxt rfl ?_
    have e := Option.some.inj h
    exact Kret _ e
  refine zG.sub [1, 0] rfl ?_
  refine zLoop_ok (Φ := (fun v3 : Int32 => zG X cX2_isShape 2 "QuiverKinModel" "isShape" 2 43 2 [(0, .int a0), (1, .int v3)] [] g m)) o1 ?_ zFuel _ h1
  rintro v3 x2 h hl2 hr2
  unfold b_X2_isShape_2 at h
  have K2 : ∀ (v3 : Int32), x2 = .inr v3 → zG X cX2_isShape 2 "QuiverKinModel" "isShape" 2 43 2 [(0, .int a0), (1, .int v3)] [] g m := by
    intro v3 e
    exact hr2 _ e
  show zG X cX2_isShape 2 "QuiverKinModel" "isShape" 2 43 2 [(0, .int a0), (1, .int v3)] [] g m
  refine g_iload_n dX2_isShape_2 1 rfl ?_
  refine g_iconst (v := (5 : Int32)) dX2_isShape_3 (by decide) ?_
  refine g_icmp_ge 30 dX2_isShape_4 (by decide) (fun c => ?_) (fun c => ?_)
  · have h := zite_p h c
    refine zG.sub [] rfl ?_
    have e := Option.some.inj h
    have e := hl2 _ e.symm
    exact K1 e.symm
  · have h := zite_n h c
    refine g_iload_n dX2_isShape_7 0 rfl ?_
    refine g_iload_n dX2_isShape_8 1 rfl ?_
    refine g_cSRv (rv := fun x : Int32 => Value.int x) [.int a0, .int v3] (fun x0 e0 => ok_X2_rowOf (xl X) g m a0 v3 x0 e0) (lw_S q2074 q2075 q126 q2076) hy_X2_rowOf rfl ⟨by decide, by decide⟩ rfl zc_0 (by decide) dX2_isShape_9 h (fun v4 h => ?_)
    refine g_iload_n dX2_isShape_12 0 rfl ?_
    refine g_iload_n dX2_isShape_13 1 rfl ?_
    refine g_iconst (v := (1 : Int32)) dX2_isShape_14 (by decide) ?_
    refine g_isub dX2_isShape_15 ?_
    refine g_cSRv (rv := fun x : Int32 => Value.int x) [.int a0, .int (v3 - (1 : Int32))] (fun x0 e0 => ok_X2_rowOf (xl X) g m a0 (v3 - (1 : Int32)) x0 e0) (lw_S q2074 q2075 q126 q2076) hy_X2_rowOf rfl ⟨by decide, by decide⟩ rfl (zc_i zc_0) (by decide) dX2_isShape_16 h (fun v5 h => ?_)
    refine g_icmp_le 24 dX2_isShape_19 (by decide) (fun c => ?_) (fun c => ?_)
    · have h := zite_p h c
      refine g_iinc (v := (1 : Int32)) [(0, .int a0)] dX2_isShape_24 1 rfl (by decide) (by decide) (zf_i (zf_i zf_0)) rfl h (fun v6 h => ?_)
      refine g_goto 2 dX2_isShape_27 (by decide) ?_
      refine zG.sub [1, 0] rfl ?_
      have e := Option.some.inj h
      exact K2 _ e.symm
    · have h := zite_n h c
      refine g_iconst (v := (0 : Int32)) dX2_isShape_22 (by decide) ?_
      refine g_zret dX2_isShape_23 hxt rfl ?_
      have e := Option.some.inj h
      have e := hl2 _ e.symm
      have e := hl1 _ e.symm
      exact Kret _ e
/-! QuiverKinModel.layWins -/
def b_X2_layWins_9 (g : zGd) (a0 : Option Nat) (a1 : Int32) : Int32 × zMm → Option ((zMm) ⊕ (Int32 × zMm)) := fun (v6, m7) =>
if a1 ≤ v6 then (some (.inl m7))
else ((f_X2_isShape v6).bind fun v8 =>
if v8 = 0 then (zlt (v6 + (1 : Int32)) fun v9 =>
some (.inr (v9, m7)))
else ((zgr g m7 2 38 a0).bind fun r10 =>
(zrc g 2 a0 (f_X2_biteOf g m7 a0 v6)).bind fun v11 =>
if v11 = (-1 : Int32) then ((zast 103 g m7 r10 v6 (vp_nar .boolean (0 : Int32))).bind fun m12 =>
zlt (v6 + (1 : Int32)) fun v13 =>
some (.inr (v13, m12)))
else ((zast 103 g m7 r10 v6 (vp_nar .boolean (1 : Int32))).bind fun m14 =>
zlt (v6 + (1 : Int32)) fun v15 =>
some (.inr (v15, m14)))))
def f_X2_layWins (g : zGd) (m : zMm) (a0 : Option Nat) (a1 : Int32) : Option (zMm) :=
(zgr g m 2 38 a0).bind fun r1 =>
(zast 103 g m r1 (0 : Int32) (vp_nar .boolean (1 : Int32))).bind fun m2 =>
(zLoop (b_X2_layWins_9 g a0 a1) zFuel ((1 : Int32), m2)).bind fun m4 =>
some (m4)
theorem hy_X2_layWins : zHy yX2_layWins 1 := ⟨by decide, by decide, by decide +kernel⟩
set_option maxHeartbeats 4000000 in
theorem ok_X2_layWins (l : Launch) (g : zGd) (m : zMm) (a0 : Option Nat) (a1 : Int32) (m0 : zMm) (h : f_X2_layWins g m a0 a1 = some m0) : zCT l yX2_layWins cX2_layWins 3 none 4 90 g m [va_rf a0, .int a1] none g m0 := by
  refine zCT.of (own := "QuiverKinModel") (mn := "layWins") (by decide +kernel) rfl rfl (zla_r (zla_i zla_0)) (zls_r (zls_i zls_0)) (by decide) (fun X hxl hxg hxf hxt hxr hxn => ?_)
  have Kret : ∀ (y0 : zMm), y0 = m0 → zRe X g y0 none := by
    intro y0 e; cases e; exact ⟨hxf, hxr, hxn⟩
  subst hxl
  show zG X cX2_layWins 3 "QuiverKinModel" "layWins" 4 90 0 [(0, va_rf a0), (1, .int a1)] [] g m
  unfold f_X2_layWins at h
  refine g_aload_n dX2_layWins_0 0 rfl ?_
  refine gf_r zfd_2_38 q1448  (fun _ h9 => h9) dX2_layWins_1 h (fun r1 h => ?_)
  refine g_iconst (v := (0 : Int32)) dX2_layWins_4 (by decide) ?_
  refine g_iconst (v := (1 : Int32)) dX2_layWins_5 (by decide) ?_
  refine g_zast dX2_layWins_6 h (fun m2 h => ?_)
  refine g_iconst (v := (1 : Int32)) dX2_layWins_7 (by decide) ?_
  refine g_istore_n [(2, .int (1 : Int32)), (0, va_rf a0), (1, .int a1)] dX2_layWins_8 (by decide) (zf_r (zf_i zf_0)) rfl ?_
  obtain ⟨o3, h1, h2⟩ := zB_e h
  have K3 : ∀ (m4 : zMm), o3 = m4 → zG X cX2_layWins 3 "QuiverKinModel" "layWins" 4 90 47 [] [] g m4 := by
    intro m4 e
    rw [e] at h2
    have h := h2
    refine g_vret dX2_layWins_47 hxt ?_
    have e := Option.some.inj h
    exact Kret _ e
  refine zG.sub [1, 2, 0] rfl ?_
  refine zLoop_ok (Φ := (fun (q : Int32 × zMm) => match q with | (v6, m7) => zG X cX2_layWins 3 "QuiverKinModel" "layWins" 4 90 9 [(0, va_rf a0), (1, .int a1), (2, .int v6)] [] g m7)) o3 ?_ zFuel _ h1
  rintro ⟨v6, m7⟩ x5 h hl5 hr5
  unfold b_X2_layWins_9 at h
  have K5 : ∀ (v6 : Int32) (m7 : zMm), x5 = .inr (v6, m7) → zG X cX2_layWins 3 "QuiverKinModel" "layWins" 4 90 9 [(0, va_rf a0), (1, .int a1), (2, .int v6)] [] g m7 := by
    intro v6 m7 e
    exact hr5 _ e
  show zG X cX2_layWins 3 "QuiverKinModel" "layWins" 4 90 9 [(0, va_rf a0), (1, .int a1), (2, .int v6)] [] g m7
  refine g_iload_n dX2_layWins_9 2 rfl ?_
  refine g_iload_n dX2_layWins_10 1 rfl ?_
  refine g_icmp_ge 47 dX2_layWins_11 (by decide) (fun c => ?_) (fun c => ?_)
  · have h := zite_p h c
    refine zG.sub [] rfl ?_
    have e := Option.some.inj h
    have e := hl5 _ e.symm
    exact K3 _ e.symm
  · have h := zite_n h c
    refine g_iload_n dX2_layWins_14 2 rfl ?_
    refine g_cSRv (rv := fun x : Int32 => Value.int x) [.int v6] (fun x0 e0 => ok_X2_isShape (xl X) g m7 v6 x0 e0) (lw_S q2071 q2072 q126 q2073) hy_X2_isShape rfl ⟨by decide, by decide⟩ rfl zc_0 (by decide) dX2_layWins_15 h (fun v8 h => ?_)
    refine g_if_eq 41 dX2_layWins_18 (by decide) (fun c => ?_) (fun c => ?_)
    · have h := zite_p h c
      refine g_iinc (v := (1 : Int32)) [(0, va_rf a0), (1, .int a1)] dX2_layWins_41 2 rfl (by decide) (by decide) (zf_r (zf_i (zf_i zf_0))) rfl h (fun v9 h => ?_)
      refine g_goto 9 dX2_layWins_44 (by decide) ?_
      refine zG.sub [1, 2, 0] rfl ?_
      have e := Option.some.inj h
      exact K5 _ _ e.symm
    · have h := zite_n h c
      refine g_aload_n dX2_layWins_21 0 rfl ?_
      refine gf_r zfd_2_38 q1448  (fun _ h9 => h9) dX2_layWins_22 h (fun r10 h => ?_)
      refine g_iload_n dX2_layWins_25 2 rfl ?_
      refine g_aload_n dX2_layWins_26 0 rfl ?_
      refine g_iload_n dX2_layWins_27 2 rfl ?_
      refine g_cVRv (rv := fun x : Int32 => Value.int x) [.int v6] (fun x0 e0 => ok_X2_biteOf (xl X) g m7 a0 v6 x0 e0) zc2 (by decide) (lw_V q2077 q2079 qs121 q126 q2080) rfl hy_X2_biteOf rfl ⟨by decide, by decide⟩ rfl (zc_i (zc_r zc_0)) (by decide) dX2_layWins_28 h (fun v11 h => ?_)
      refine g_iconst (v := (-1 : Int32)) dX2_layWins_31 (by decide) ?_
      refine g_icmp_eq 39 dX2_layWins_32 (by decide) (fun c => ?_) (fun c => ?_)
      · have h := zite_p h c
        refine g_iconst (v := (0 : Int32)) dX2_layWins_39 (by decide) ?_
        refine g_zast dX2_layWins_40 h (fun m12 h => ?_)
        refine g_iinc (v := (1 : Int32)) [(0, va_rf a0), (1, .int a1)] dX2_layWins_41 2 rfl (by decide) (by decide) (zf_r (zf_i (zf_i zf_0))) rfl h (fun v13 h => ?_)
        refine g_goto 9 dX2_layWins_44 (by decide) ?_
        refine zG.sub [1, 2, 0] rfl ?_
        have e := Option.some.inj h
        exact K5 _ _ e.symm
      · have h := zite_n h c
        refine g_iconst (v := (1 : Int32)) dX2_layWins_35 (by decide) ?_
        refine g_goto 40 dX2_layWins_36 (by decide) ?_
        refine g_zast dX2_layWins_40 h (fun m14 h => ?_)
        refine g_iinc (v := (1 : Int32)) [(0, va_rf a0), (1, .int a1)] dX2_layWins_41 2 rfl (by decide) (by decide) (zf_r (zf_i (zf_i zf_0))) rfl h (fun v15 h => ?_)
        refine g_goto 9 dX2_layWins_44 (by decide) ?_
        refine zG.sub [1, 2, 0] rfl ?_
        have e := Option.some.inj h
        exact K5 _ _ e.symm
/-! QuiverKinModel.game -/
def b_X2_game_25 (a1 : Int32) (a2 : Int32) : Int32 × Int32 → Option ((Int32) ⊕ (Int32 × Int32)) := fun (v6, v7) =>
if (5 : Int32) ≤ v7 then (some (.inl v6))
else (if a1 ≤ v7 then (zlt (((6 : Int32) * v6) + (0 : Int32)) fun v8 =>
zlt (v7 + (1 : Int32)) fun v9 =>
some (.inr (v8, v9)))
else (zlt (((6 : Int32) * v6) + a2) fun v10 =>
zlt (v7 + (1 : Int32)) fun v11 =>
some (.inr (v10, v11))))
def f_X2_game (g : zGd) (m : zMm) (a0 : Option Nat) (a1 : Int32) (a2 : Int32) : Option (Int32 × zMm) :=
(f_X2_isIn a1 (1 : Int32) (5 : Int32)).bind fun v1 =>
if v1 = 0 then (some (((-1 : Int32), m)))
else ((f_X2_isIn a2 (1 : Int32) (5 : Int32)).bind fun v2 =>
if v2 = 0 then (some (((-1 : Int32), m)))
else ((zLoop (b_X2_game_25 a1 a2) zFuel ((0 : Int32), (0 : Int32))).bind fun v4 =>
(zrc g 2 a0 (f_X2_layWins g m a0 v4)).bind fun m12 =>
(zrc g 2 a0 (f_X2_biteOf g m12 a0 v4)).bind fun v13 =>
if v13 = (-1 : Int32) then (some (((0 : Int32), m12)))
else (some (((1 : Int32), m12)))))
theorem hy_X2_game : zHy yX2_game 2 := ⟨by decide, by decide, by decide +kernel⟩
set_option maxHeartbeats 4000000 in
theorem ok_X2_game (l : Launch) (g : zGd) (m : zMm) (a0 : Option Nat) (a1 : Int32) (a2 : Int32) (z0 : Int32) (m0 : zMm) (h : f_X2_game g m a0 a1 a2 = some (z0, m0)) : zCT l yX2_game cX2_game 5 (some .int) 5 112 g m [va_rf a0, .int a1, .int a2] (some (.int z0)) g m0 := by
  refine zCT.of (own := "QuiverKinModel") (mn := "game") (by decide +kernel) rfl rfl (zla_r (zla_i (zla_i zla_0))) (zls_r (zls_i (zls_i zls_0))) (by decide) (fun X hxl hxg hxf hxt hxr hxn => ?_)
  have Kret : ∀ (y0 : Int32) (y1 : zMm), (y0, y1) = (z0, m0) → zRe X g y1 (some (.int y0)) := by
    intro y0 y1 e; cases e; exact ⟨hxf, hxr, hxn⟩
  subst hxl
  show zG X cX2_game 5 "QuiverKinModel" "game" 5 112 0 [(0, va_rf a0), (1, .int a1), (2, .int a2)] [] g m
  unfold f_X2_game at h
  refine g_iload_n dX2_game_0 1 rfl ?_
  refine g_iconst (v := (1 : Int32)) dX2_game_1 (by decide) ?_
  refine g_iconst (v := (5 : Int32)) dX2_game_2 (by decide) ?_
  refine g_cSRv (rv := fun x : Int32 => Value.int x) [.int a1, .int (1 : Int32), .int (5 : Int32)] (fun x0 e0 => ok_X2_isIn (xl X) g m a1 (1 : Int32) (5 : Int32) x0 e0) (lw_S q1534 q1535 q126 q1536) hy_X2_isIn rfl ⟨by decide, by decide⟩ rfl zc_0 (by decide) dX2_game_3 h (fun v1 h => ?_)
  refine g_if_eq 18 dX2_game_6 (by decide) (fun c => ?_) (fun c => ?_)
  · have h := zite_p h c
    refine g_iconst (v := (-1 : Int32)) dX2_game_18 (by decide) ?_
    refine g_iret dX2_game_19 hxt ?_
    have e := Option.some.inj h
    exact Kret _ _ e
  · have h := zite_n h c
    refine g_iload_n dX2_game_9 2 rfl ?_
    refine g_iconst (v := (1 : Int32)) dX2_game_10 (by decide) ?_
    refine g_iconst (v := (5 : Int32)) dX2_game_11 (by decide) ?_
    refine g_cSRv (rv := fun x : Int32 => Value.int x) [.int a2, .int (1 : Int32), .int (5 : Int32)] (fun x0 e0 => ok_X2_isIn (xl X) g m a2 (1 : Int32) (5 : Int32) x0 e0) (lw_S q1534 q1535 q126 q1536) hy_X2_isIn rfl ⟨by decide, by decide⟩ rfl zc_0 (by decide) dX2_game_12 h (fun v2 h => ?_)
    refine g_if_ne 20 dX2_game_15 (by decide) (fun c => ?_) (fun c => ?_)
    · have h := zite_n h c
      refine g_iconst (v := (0 : Int32)) dX2_game_20 (by decide) ?_
      refine g_istore_n [(3, .int (0 : Int32)), (0, va_rf a0), (1, .int a1), (2, .int a2)] dX2_game_21 (by decide) (zf_r (zf_i (zf_i zf_0))) rfl ?_
      refine g_iconst (v := (0 : Int32)) dX2_game_22 (by decide) ?_
      refine g_istore [(4, .int (0 : Int32)), (3, .int (0 : Int32)), (0, va_rf a0), (1, .int a1), (2, .int a2)] dX2_game_23 (by decide) (zf_i (zf_r (zf_i (zf_i zf_0)))) rfl ?_
      obtain ⟨o3, h1, h2⟩ := zB_e h
      have K3 : ∀ (v4 : Int32), o3 = v4 → zG X cX2_game 5 "QuiverKinModel" "game" 5 112 54 [(0, va_rf a0), (3, .int v4)] [] g m := by
        intro v4 e
        rw [e] at h2
        have h := h2
        refine g_aload_n dX2_game_54 0 rfl ?_
        refine g_iload_n dX2_game_55 1 rfl ?_
        refine g_cVMn [.int v4] (fun m0 e0 => ok_X2_layWins (xl X) g m a0 v4 m0 e0) zc2 (by decide) (lw_V q2067 q2069 qs120 q126 q2070) rfl hy_X2_layWins rfl ⟨by decide, by decide⟩ rfl zc_0 (by decide) dX2_game_56 h (fun m12 h => ?_)
        refine g_aload_n dX2_game_59 0 rfl ?_
        refine g_iload_n dX2_game_60 1 rfl ?_
        refine g_cVRv (rv := fun x : Int32 => Value.int x) [.int v4] (fun x0 e0 => ok_X2_biteOf (xl X) g m12 a0 v4 x0 e0) zc2 (by decide) (lw_V q2077 q2079 qs121 q126 q2080) rfl hy_X2_biteOf rfl ⟨by decide, by decide⟩ rfl zc_0 (by decide) dX2_game_61 h (fun v13 h => ?_)
        refine g_iconst (v := (-1 : Int32)) dX2_game_64 (by decide) ?_
        refine g_icmp_ne 72 dX2_game_65 (by decide) (fun c => ?_) (fun c => ?_)
        · have h := zite_n h c
          refine g_iconst (v := (1 : Int32)) dX2_game_72 (by decide) ?_
          refine g_iret dX2_game_73 hxt ?_
          have e := Option.some.inj h
          exact Kret _ _ e
        · have h := zite_p h c
          refine g_iconst (v := (0 : Int32)) dX2_game_68 (by decide) ?_
          refine g_goto 73 dX2_game_69 (by decide) ?_
          refine g_iret dX2_game_73 hxt ?_
          have e := Option.some.inj h
          exact Kret _ _ e
      refine zG.sub [2, 3, 4, 1, 0] rfl ?_
      refine zLoop_ok (Φ := (fun (q : Int32 × Int32) => match q with | (v6, v7) => zG X cX2_game 5 "QuiverKinModel" "game" 5 112 25 [(0, va_rf a0), (1, .int a1), (2, .int a2), (3, .int v6), (4, .int v7)] [] g m)) o3 ?_ zFuel _ h1
      rintro ⟨v6, v7⟩ x5 h hl5 hr5
      unfold b_X2_game_25 at h
      have K5 : ∀ (v6 : Int32) (v7 : Int32), x5 = .inr (v6, v7) → zG X cX2_game 5 "QuiverKinModel" "game" 5 112 25 [(0, va_rf a0), (1, .int a1), (2, .int a2), (3, .int v6), (4, .int v7)] [] g m := by
        intro v6 v7 e
        exact hr5 _ e
      show zG X cX2_game 5 "QuiverKinModel" "game" 5 112 25 [(0, va_rf a0), (1, .int a1), (2, .int a2), (3, .int v6), (4, .int v7)] [] g m
      refine g_iload dX2_game_25 4 rfl ?_
      refine g_iconst (v := (5 : Int32)) dX2_game_27 (by decide) ?_
      refine g_icmp_ge 54 dX2_game_28 (by decide) (fun c => ?_) (fun c => ?_)
      · have h := zite_p h c
        refine zG.sub [0, 3] rfl ?_
        have e := Option.some.inj h
        have e := hl5 _ e.symm
        exact K3 _ e.symm
      · have h := zite_n h c
        refine g_bipush (v := (6 : Int32)) dX2_game_31 (by decide) ?_
        refine g_iload_n dX2_game_33 3 rfl ?_
        refine g_imul dX2_game_34 ?_
        refine g_iload dX2_game_35 4 rfl ?_
        refine g_iload_n dX2_game_37 1 rfl ?_
        refine g_icmp_ge 45 dX2_game_38 (by decide) (fun c => ?_) (fun c => ?_)
        · have h := zite_p h c
          refine g_iconst (v := (0 : Int32)) dX2_game_45 (by decide) ?_
          refine g_iadd dX2_game_46 ?_
          refine g_leti h (fun v8 h => ?_)
          refine g_istore_n [(3, .int v8), (0, va_rf a0), (1, .int a1), (2, .int a2), (4, .int v7)] dX2_game_47 (by decide) (zf_r (zf_i (zf_i (zf_i (zf_i zf_0))))) rfl ?_
          refine g_iinc (v := (1 : Int32)) [(3, .int v8), (0, va_rf a0), (1, .int a1), (2, .int a2)] dX2_game_48 4 rfl (by decide) (by decide) (zf_i (zf_r (zf_i (zf_i (zf_i zf_0))))) rfl h (fun v9 h => ?_)
          refine g_goto 25 dX2_game_51 (by decide) ?_
          refine zG.sub [2, 3, 4, 1, 0] rfl ?_
          have e := Option.some.inj h
          exact K5 _ _ e.symm
        · have h := zite_n h c
          refine g_iload_n dX2_game_41 2 rfl ?_
          refine g_goto 46 dX2_game_42 (by decide) ?_
          refine g_iadd dX2_game_46 ?_
          refine g_leti h (fun v10 h => ?_)
          refine g_istore_n [(3, .int v10), (0, va_rf a0), (1, .int a1), (2, .int a2), (4, .int v7)] dX2_game_47 (by decide) (zf_r (zf_i (zf_i (zf_i (zf_i zf_0))))) rfl ?_
          refine g_iinc (v := (1 : Int32)) [(3, .int v10), (0, va_rf a0), (1, .int a1), (2, .int a2)] dX2_game_48 4 rfl (by decide) (by decide) (zf_i (zf_r (zf_i (zf_i (zf_i zf_0))))) rfl h (fun v11 h => ?_)
          refine g_goto 25 dX2_game_51 (by decide) ?_
          refine zG.sub [2, 3, 4, 1, 0] rfl ?_
          have e := Option.some.inj h
          exact K5 _ _ e.symm
    · have h := zite_p h c
      refine g_iconst (v := (-1 : Int32)) dX2_game_18 (by decide) ?_
      refine g_iret dX2_game_19 hxt ?_
      have e := Option.some.inj h
      exact Kret _ _ e
/-! QuiverKinModel.bite -/
def b_X2_bite_23 (m : zMm) (a1 : Int32) : Int32 × Int32 × Int32 → Option ((((Int32 × zMm) ⊕ (Int32))) ⊕ (Int32 × Int32 × Int32)) := fun (v5, v6, v7) =>
if (5 : Int32) ≤ v7 then (some (.inl (.inr v5)))
else ((zdiv a1 v6).bind fun v8 =>
if (zrem v8 (10 : Int32)) ≤ (5 : Int32) then ((zdiv a1 v6).bind fun v9 =>
zlt (((6 : Int32) * v5) + (zrem v9 (10 : Int32))) fun v10 =>
zlt (v6 / (10 : Int32)) fun v11 =>
zlt (v7 + (1 : Int32)) fun v12 =>
some (.inr (v10, v11, v12)))
else (some (.inl (.inl (((-1 : Int32), m))))))
def f_X2_bite (g : zGd) (m : zMm) (a0 : Option Nat) (a1 : Int32) (a2 : Int32) : Option (Int32 × zMm) :=
(f_X2_isIn a1 (0 : Int32) (55555 : Int32)).bind fun v1 =>
if v1 = 0 then (some (((-1 : Int32), m)))
else (zEx (σ := Int32) (zLoop (b_X2_bite_23 m a1) zFuel ((0 : Int32), (10000 : Int32), (0 : Int32))) fun v3 =>
(f_X2_isShape v3).bind fun v13 =>
if v13 = 0 then (some (((-1 : Int32), m)))
else ((zrc g 2 a0 (f_X2_layWins g m a0 v3)).bind fun m14 =>
(zrc g 2 a0 (f_X2_biteOf g m14 a0 v3)).bind fun v15 =>
if v15 = (-1 : Int32) then (some (((-1 : Int32), m14)))
else (if a2 = 0 then (some (((zrem v15 (5 : Int32)), m14)))
else (some (((v15 / (5 : Int32)), m14))))))
theorem hy_X2_bite : zHy yX2_bite 2 := ⟨by decide, by decide, by decide +kernel⟩
set_option maxHeartbeats 4000000 in
theorem ok_X2_bite (l : Launch) (g : zGd) (m : zMm) (a0 : Option Nat) (a1 : Int32) (a2 : Int32) (z0 : Int32) (m0 : zMm) (h : f_X2_bite g m a0 a1 a2 = some (z0, m0)) : zCT l yX2_bite cX2_bite 6 (some .int) 5 112 g m [va_rf a0, .int a1, .int a2] (some (.int z0)) g m0 := by
  refine zCT.of (own := "QuiverKinModel") (mn := "bite") (by decide +kernel) rfl rfl (zla_r (zla_i (zla_i zla_0))) (zls_r (zls_i (zls_i zls_0))) (by decide) (fun X hxl hxg hxf hxt hxr hxn => ?_)
  have Kret : ∀ (y0 : Int32) (y1 : zMm), (y0, y1) = (z0, m0) → zRe X g y1 (some (.int y0)) := by
    intro y0 y1 e; cases e; exact ⟨hxf, hxr, hxn⟩
  subst hxl
  show zG X cX2_bite 6 "QuiverKinModel" "bite" 5 112 0 [(0, va_rf a0), (1, .int a1), (2, .int a2)] [] g m
  unfold f_X2_bite at h
  refine g_iload_n dX2_bite_0 1 rfl ?_
  refine g_iconst (v := (0 : Int32)) dX2_bite_1 (by decide) ?_
  refine g_ldcw (v := (55555 : Int32)) q2088 dX2_bite_2 ?_
  refine g_cSRv (rv := fun x : Int32 => Value.int x) [.int a1, .int (0 : Int32), .int (55555 : Int32)] (fun x0 e0 => ok_X2_isIn (xl X) g m a1 (0 : Int32) (55555 : Int32) x0 e0) (lw_S q1534 q1535 q126 q1536) hy_X2_isIn rfl ⟨by decide, by decide⟩ rfl zc_0 (by decide) dX2_bite_5 h (fun v1 h => ?_)
  refine g_if_ne 13 dX2_bite_8 (by decide) (fun c => ?_) (fun c => ?_)
  · have h := zite_n h c
    refine g_iconst (v := (0 : Int32)) dX2_bite_13 (by decide) ?_
    refine g_istore_n [(3, .int (0 : Int32)), (0, va_rf a0), (1, .int a1), (2, .int a2)] dX2_bite_14 (by decide) (zf_r (zf_i (zf_i zf_0))) rfl ?_
    refine g_sipush (v := (10000 : Int32)) dX2_bite_15 (by decide) ?_
    refine g_istore [(4, .int (10000 : Int32)), (3, .int (0 : Int32)), (0, va_rf a0), (1, .int a1), (2, .int a2)] dX2_bite_18 (by decide) (zf_i (zf_r (zf_i (zf_i zf_0)))) rfl ?_
    refine g_iconst (v := (0 : Int32)) dX2_bite_20 (by decide) ?_
    refine g_istore [(5, .int (0 : Int32)), (4, .int (10000 : Int32)), (3, .int (0 : Int32)), (0, va_rf a0), (1, .int a1), (2, .int a2)] dX2_bite_21 (by decide) (zf_i (zf_i (zf_r (zf_i (zf_i zf_0))))) rfl ?_
    obtain ⟨o2, h1, hl2, hr2⟩ := zEx_e h
    have K2 : ∀ (v3 : Int32), o2 = .inr v3 → zG X cX2_bite 6 "QuiverKinModel" "bite" 5 112 68 [(0, va_rf a0), (2, .int a2), (3, .int v3)] [] g m := by
      intro v3 e
      have h := hr2 _ e
      refine g_iload_n dX2_bite_68 2 rfl ?_
      refine g_cSRv (rv := fun x : Int32 => Value.int x) [.int v3] (fun x0 e0 => ok_X2_isShape (xl X) g m v3 x0 e0) (lw_S q2071 q2072 q126 q2073) hy_X2_isShape rfl ⟨by decide, by decide⟩ rfl zc_0 (by decide) dX2_bite_69 h (fun v13 h => ?_)
      refine g_if_ne 77 dX2_bite_72 (by decide) (fun c => ?_) (fun c => ?_)
      · have h := zite_n h c
        refine g_aload_n dX2_bite_77 0 rfl ?_
        refine g_iload_n dX2_bite_78 2 rfl ?_
        refine g_cVMn [.int v3] (fun m0 e0 => ok_X2_layWins (xl X) g m a0 v3 m0 e0) zc2 (by decide) (lw_V q2067 q2069 qs120 q126 q2070) rfl hy_X2_layWins rfl ⟨by decide, by decide⟩ rfl zc_0 (by decide) dX2_bite_79 h (fun m14 h => ?_)
        refine g_aload_n dX2_bite_82 0 rfl ?_
        refine g_iload_n dX2_bite_83 2 rfl ?_
        refine g_cVRv (rv := fun x : Int32 => Value.int x) [.int v3] (fun x0 e0 => ok_X2_biteOf (xl X) g m14 a0 v3 x0 e0) zc2 (by decide) (lw_V q2077 q2079 qs121 q126 q2080) rfl hy_X2_biteOf rfl ⟨by decide, by decide⟩ rfl zc_0 (by decide) dX2_bite_84 h (fun v15 h => ?_)
        refine g_istore [(5, .int v15), (0, va_rf a0), (2, .int a2), (3, .int v3)] dX2_bite_87 (by decide) (zf_r (zf_i (zf_i zf_0))) rfl ?_
        refine g_iload dX2_bite_89 0 rfl ?_
        refine g_iconst (v := (-1 : Int32)) dX2_bite_91 (by decide) ?_
        refine g_icmp_ne 99 dX2_bite_92 (by decide) (fun c => ?_) (fun c => ?_)
        · have h := zite_n h c
          refine g_iload_n dX2_bite_99 2 rfl ?_
          refine g_if_eq 110 dX2_bite_100 (by decide) (fun c => ?_) (fun c => ?_)
          · have h := zite_p h c
            refine g_iload dX2_bite_110 0 rfl ?_
            refine g_iconst (v := (5 : Int32)) dX2_bite_112 (by decide) ?_
            refine g_iremC dX2_bite_113 (by decide) ?_
            refine g_iret dX2_bite_114 hxt ?_
            have e := Option.some.inj h
            exact Kret _ _ e
          · have h := zite_n h c
            refine g_iload dX2_bite_103 0 rfl ?_
            refine g_iconst (v := (5 : Int32)) dX2_bite_105 (by decide) ?_
            refine g_idivC dX2_bite_106 (by decide) ?_
            refine g_goto 114 dX2_bite_107 (by decide) ?_
            refine g_iret dX2_bite_114 hxt ?_
            have e := Option.some.inj h
            exact Kret _ _ e
        · have h := zite_p h c
          refine g_iconst (v := (-1 : Int32)) dX2_bite_95 (by decide) ?_
          refine g_goto 114 dX2_bite_96 (by decide) ?_
          refine g_iret dX2_bite_114 hxt ?_
          have e := Option.some.inj h
          exact Kret _ _ e
      · have h := zite_p h c
        refine g_iconst (v := (-1 : Int32)) dX2_bite_75 (by decide) ?_
        refine g_iret dX2_bite_76 hxt ?_
        have e := Option.some.inj h
        exact Kret _ _ e
    refine zG.sub [3, 4, 5, 2, 1, 0] rfl ?_
    refine zLoop_ok (Φ := (fun (q : Int32 × Int32 × Int32) => match q with | (v5, v6, v7) => zG X cX2_bite 6 "QuiverKinModel" "bite" 5 112 23 [(0, va_rf a0), (1, .int a1), (2, .int a2), (3, .int v5), (4, .int v6), (5, .int v7)] [] g m)) o2 ?_ zFuel _ h1
    rintro ⟨v5, v6, v7⟩ x4 h hl4 hr4
    unfold b_X2_bite_23 at h
    have K4 : ∀ (v5 : Int32) (v6 : Int32) (v7 : Int32), x4 = .inr (v5, v6, v7) → zG X cX2_bite 6 "QuiverKinModel" "bite" 5 112 23 [(0, va_rf a0), (1, .int a1), (2, .int a2), (3, .int v5), (4, .int v6), (5, .int v7)] [] g m := by
      intro v5 v6 v7 e
      exact hr4 _ e
    show zG X cX2_bite 6 "QuiverKinModel" "bite" 5 112 23 [(0, va_rf a0), (1, .int a1), (2, .int a2), (3, .int v5), (4, .int v6), (5, .int v7)] [] g m
    refine g_iload dX2_bite_23 5 rfl ?_
    refine g_iconst (v := (5 : Int32)) dX2_bite_25 (by decide) ?_
    refine g_icmp_ge 68 dX2_bite_26 (by decide) (fun c => ?_) (fun c => ?_)
    · have h := zite_p h c
      refine zG.sub [0, 2, 3] rfl ?_
      have e := Option.some.inj h
      have e := hl4 _ e.symm
      exact K2 _ e.symm
    · have h := zite_n h c
      refine g_iload_n dX2_bite_29 1 rfl ?_
      refine g_iload dX2_bite_30 4 rfl ?_
      refine g_idiv dX2_bite_32 h (fun v8 h => ?_)
      refine g_bipush (v := (10 : Int32)) dX2_bite_33 (by decide) ?_
      refine g_iremC dX2_bite_35 (by decide) ?_
      refine g_iconst (v := (5 : Int32)) dX2_bite_36 (by decide) ?_
      refine g_icmp_le 42 dX2_bite_37 (by decide) (fun c => ?_) (fun c => ?_)
      · have h := zite_p h c
        refine g_bipush (v := (6 : Int32)) dX2_bite_42 (by decide) ?_
        refine g_iload_n dX2_bite_44 3 rfl ?_
        refine g_imul dX2_bite_45 ?_
        refine g_iload_n dX2_bite_46 1 rfl ?_
        refine g_iload dX2_bite_47 4 rfl ?_
        refine g_idiv dX2_bite_49 h (fun v9 h => ?_)
        refine g_bipush (v := (10 : Int32)) dX2_bite_50 (by decide) ?_
        refine g_iremC dX2_bite_52 (by decide) ?_
        refine g_iadd dX2_bite_53 ?_
        refine g_leti h (fun v10 h => ?_)
        refine g_istore_n [(3, .int v10), (0, va_rf a0), (1, .int a1), (2, .int a2), (4, .int v6), (5, .int v7)] dX2_bite_54 (by decide) (zf_r (zf_i (zf_i (zf_i (zf_i (zf_i zf_0)))))) rfl ?_
        refine g_iload dX2_bite_55 4 rfl ?_
        refine g_bipush (v := (10 : Int32)) dX2_bite_57 (by decide) ?_
        refine g_idivC dX2_bite_59 (by decide) ?_
        refine g_leti h (fun v11 h => ?_)
        refine g_istore [(4, .int v11), (3, .int v10), (0, va_rf a0), (1, .int a1), (2, .int a2), (5, .int v7)] dX2_bite_60 (by decide) (zf_i (zf_r (zf_i (zf_i (zf_i (zf_i zf_0)))))) rfl ?_
        refine g_iinc (v := (1 : Int32)) [(4, .int v11), (3, .int v10), (0, va_rf a0), (1, .int a1), (2, .int a2)] dX2_bite_62 5 rfl (by decide) (by decide) (zf_i (zf_i (zf_r (zf_i (zf_i (zf_i zf_0)))))) rfl h (fun v12 h => ?_)
        refine g_goto 23 dX2_bite_65 (by decide) ?_
        refine zG.sub [3, 4, 5, 2, 1, 0] rfl ?_
        have e := Option.some.inj h
        exact K4 _ _ _ e.symm
      · have h := zite_n h c
        refine g_iconst (v := (-1 : Int32)) dX2_bite_40 (by decide) ?_
        refine g_iret dX2_bite_41 hxt ?_
        have e := Option.some.inj h
        have e := hl4 _ e.symm
        have e := hl2 _ e.symm
        exact Kret _ _ e
  · have h := zite_p h c
    refine g_iconst (v := (-1 : Int32)) dX2_bite_11 (by decide) ?_
    refine g_iret dX2_bite_12 hxt ?_
    have e := Option.some.inj h
    exact Kret _ _ e
/-! QuiverKinModel.told -/
def f_X2_told (g : zGd) (m : zMm) (a0 : Option Nat) (a1 : Int32) (a2 : Int32) : Option (Int32 × zMm) :=
if a1 = (-1 : Int32) then ((zgr g m 2 0 a0).bind fun r18 =>
(zast 101 g m r18 (6 : Int32) (0 : Int32)).bind fun m19 =>
some (((0 : Int32), m19)))
else ((zrc g 2 a0 (f_X2_isKin g m a0 a1)).bind fun v1 =>
if v1 = 0 then (some (((-2 : Int32), m)))
else ((f_X2_isIn a2 (0 : Int32) (10 : Int32)).bind fun v2 =>
if v2 = 0 then (some (((-2 : Int32), m)))
else ((zgr g m 2 0 a0).bind fun r3 =>
(zald 101 g m r3 (6 : Int32)).bind fun v4 =>
if v4 = (8 : Int32) then (some (((-2 : Int32), m)))
else ((zgr g m 2 0 a0).bind fun r5 =>
(zgr g m 2 0 a0).bind fun r6 =>
(zald 101 g m r6 (6 : Int32)).bind fun v7 =>
(zast 101 g m r5 ((149 : Int32) + ((2 : Int32) * v7)) a1).bind fun m8 =>
(zgr g m8 2 0 a0).bind fun r9 =>
(zgr g m8 2 0 a0).bind fun r10 =>
(zald 101 g m8 r10 (6 : Int32)).bind fun v11 =>
(zast 101 g m8 r9 (((149 : Int32) + ((2 : Int32) * v11)) + (1 : Int32)) a2).bind fun m12 =>
(zgr g m12 2 0 a0).bind fun r13 =>
(zald 101 g m12 r13 (6 : Int32)).bind fun v14 =>
(zast 101 g m12 r13 (6 : Int32) (v14 + (1 : Int32))).bind fun m15 =>
(zgr g m15 2 0 a0).bind fun r16 =>
(zald 101 g m15 r16 (6 : Int32)).bind fun v17 =>
some ((v17, m15))))))
theorem hy_X2_told : zHy yX2_told 2 := ⟨by decide, by decide, by decide +kernel⟩
set_option maxHeartbeats 4000000 in
theorem ok_X2_told (l : Launch) (g : zGd) (m : zMm) (a0 : Option Nat) (a1 : Int32) (a2 : Int32) (z0 : Int32) (m0 : zMm) (h : f_X2_told g m a0 a1 a2 = some (z0, m0)) : zCT l yX2_told cX2_told 3 (some .int) 3 63 g m [va_rf a0, .int a1, .int a2] (some (.int z0)) g m0 := by
  refine zCT.of (own := "QuiverKinModel") (mn := "told") (by decide +kernel) rfl rfl (zla_r (zla_i (zla_i zla_0))) (zls_r (zls_i (zls_i zls_0))) (by decide) (fun X hxl hxg hxf hxt hxr hxn => ?_)
  have Kret : ∀ (y0 : Int32) (y1 : zMm), (y0, y1) = (z0, m0) → zRe X g y1 (some (.int y0)) := by
    intro y0 y1 e; cases e; exact ⟨hxf, hxr, hxn⟩
  subst hxl
  show zG X cX2_told 3 "QuiverKinModel" "told" 3 63 0 [(0, va_rf a0), (1, .int a1), (2, .int a2)] [] g m
  unfold f_X2_told at h
  refine g_iload_n dX2_told_0 1 rfl ?_
  refine g_iconst (v := (-1 : Int32)) dX2_told_1 (by decide) ?_
  refine g_icmp_ne 15 dX2_told_2 (by decide) (fun c => ?_) (fun c => ?_)
  · have h := zite_n h c
    refine g_aload_n dX2_told_15 0 rfl ?_
    refine g_iload_n dX2_told_16 1 rfl ?_
    refine g_cVRv (rv := fun x : Int32 => Value.int x) [.int a1] (fun x0 e0 => ok_X2_isKin (xl X) g m a0 a1 x0 e0) zc2 (by decide) (lw_V q1545 q1547 qs55 q126 q1548) rfl hy_X2_isKin rfl ⟨by decide, by decide⟩ rfl zc_0 (by decide) dX2_told_17 h (fun v1 h => ?_)
    refine g_if_eq 45 dX2_told_20 (by decide) (fun c => ?_) (fun c => ?_)
    · have h := zite_p h c
      refine g_bipush (v := (-2 : Int32)) dX2_told_45 (by decide) ?_
      refine g_iret dX2_told_47 hxt ?_
      have e := Option.some.inj h
      exact Kret _ _ e
    · have h := zite_n h c
      refine g_iload_n dX2_told_23 2 rfl ?_
      refine g_iconst (v := (0 : Int32)) dX2_told_24 (by decide) ?_
      refine g_bipush (v := (10 : Int32)) dX2_told_25 (by decide) ?_
      refine g_cSRv (rv := fun x : Int32 => Value.int x) [.int a2, .int (0 : Int32), .int (10 : Int32)] (fun x0 e0 => ok_X2_isIn (xl X) g m a2 (0 : Int32) (10 : Int32) x0 e0) (lw_S q1534 q1535 q126 q1536) hy_X2_isIn rfl ⟨by decide, by decide⟩ rfl zc_0 (by decide) dX2_told_27 h (fun v2 h => ?_)
      refine g_if_eq 45 dX2_told_30 (by decide) (fun c => ?_) (fun c => ?_)
      · have h := zite_p h c
        refine g_bipush (v := (-2 : Int32)) dX2_told_45 (by decide) ?_
        refine g_iret dX2_told_47 hxt ?_
        have e := Option.some.inj h
        exact Kret _ _ e
      · have h := zite_n h c
        refine g_aload_n dX2_told_33 0 rfl ?_
        refine gf_r zfd_2_0 q1410  (fun _ h9 => h9) dX2_told_34 h (fun r3 h => ?_)
        refine g_bipush (v := (6 : Int32)) dX2_told_37 (by decide) ?_
        refine g_iald dX2_told_39 h (fun v4 h => ?_)
        refine g_bipush (v := (8 : Int32)) dX2_told_40 (by decide) ?_
        refine g_icmp_ne 48 dX2_told_42 (by decide) (fun c => ?_) (fun c => ?_)
        · have h := zite_n h c
          refine g_aload_n dX2_told_48 0 rfl ?_
          refine gf_r zfd_2_0 q1410  (fun _ h9 => h9) dX2_told_49 h (fun r5 h => ?_)
          refine g_sipush (v := (149 : Int32)) dX2_told_52 (by decide) ?_
          refine g_iconst (v := (2 : Int32)) dX2_told_55 (by decide) ?_
          refine g_aload_n dX2_told_56 0 rfl ?_
          refine gf_r zfd_2_0 q1410  (fun _ h9 => h9) dX2_told_57 h (fun r6 h => ?_)
          refine g_bipush (v := (6 : Int32)) dX2_told_60 (by decide) ?_
          refine g_iald dX2_told_62 h (fun v7 h => ?_)
          refine g_imul dX2_told_63 ?_
          refine g_iadd dX2_told_64 ?_
          refine g_iload_n dX2_told_65 1 rfl ?_
          refine g_iast dX2_told_66 h (fun m8 h => ?_)
          refine g_aload_n dX2_told_67 0 rfl ?_
          refine gf_r zfd_2_0 q1410  (fun _ h9 => h9) dX2_told_68 h (fun r9 h => ?_)
          refine g_sipush (v := (149 : Int32)) dX2_told_71 (by decide) ?_
          refine g_iconst (v := (2 : Int32)) dX2_told_74 (by decide) ?_
          refine g_aload_n dX2_told_75 0 rfl ?_
          refine gf_r zfd_2_0 q1410  (fun _ h9 => h9) dX2_told_76 h (fun r10 h => ?_)
          refine g_bipush (v := (6 : Int32)) dX2_told_79 (by decide) ?_
          refine g_iald dX2_told_81 h (fun v11 h => ?_)
          refine g_imul dX2_told_82 ?_
          refine g_iadd dX2_told_83 ?_
          refine g_iconst (v := (1 : Int32)) dX2_told_84 (by decide) ?_
          refine g_iadd dX2_told_85 ?_
          refine g_iload_n dX2_told_86 2 rfl ?_
          refine g_iast dX2_told_87 h (fun m12 h => ?_)
          refine g_aload_n dX2_told_88 0 rfl ?_
          refine gf_r zfd_2_0 q1410  (fun _ h9 => h9) dX2_told_89 h (fun r13 h => ?_)
          refine g_bipush (v := (6 : Int32)) dX2_told_92 (by decide) ?_
          refine g_dup2 dX2_told_94 rfl (zcat_r _) ?_
          refine g_iald dX2_told_95 h (fun v14 h => ?_)
          refine g_iconst (v := (1 : Int32)) dX2_told_96 (by decide) ?_
          refine g_iadd dX2_told_97 ?_
          refine g_iast dX2_told_98 h (fun m15 h => ?_)
          refine g_aload_n dX2_told_99 0 rfl ?_
          refine gf_r zfd_2_0 q1410  (fun _ h9 => h9) dX2_told_100 h (fun r16 h => ?_)
          refine g_bipush (v := (6 : Int32)) dX2_told_103 (by decide) ?_
          refine g_iald dX2_told_105 h (fun v17 h => ?_)
          refine g_iret dX2_told_106 hxt ?_
          have e := Option.some.inj h
          exact Kret _ _ e
        · have h := zite_p h c
          refine g_bipush (v := (-2 : Int32)) dX2_told_45 (by decide) ?_
          refine g_iret dX2_told_47 hxt ?_
          have e := Option.some.inj h
          exact Kret _ _ e
  · have h := zite_p h c
    refine g_aload_n dX2_told_5 0 rfl ?_
    refine gf_r zfd_2_0 q1410  (fun _ h9 => h9) dX2_told_6 h (fun r18 h => ?_)
    refine g_bipush (v := (6 : Int32)) dX2_told_9 (by decide) ?_
    refine g_iconst (v := (0 : Int32)) dX2_told_11 (by decide) ?_
    refine g_iast dX2_told_12 h (fun m19 h => ?_)
    refine g_iconst (v := (0 : Int32)) dX2_told_13 (by decide) ?_
    refine g_iret dX2_told_14 hxt ?_
    have e := Option.some.inj h
    exact Kret _ _ e
/-! QuiverKinModel.whose -/
def b_X2_whose_21 (g : zGd) (a0 : Option Nat) (v6 : Int32) : Int32 × Int32 × zMm → Option ((Int32 × zMm) ⊕ (Int32 × Int32 × zMm)) := fun (v14, v15, m16) =>
(zgr g m16 2 0 a0).bind fun r17 =>
(zald 101 g m16 r17 (6 : Int32)).bind fun v18 =>
if ((149 : Int32) + ((2 : Int32) * v18)) ≤ v15 then (some (.inl ((v14, m16))))
else (if v14 = 0 then (zlt (v15 + (2 : Int32)) fun v19 =>
some (.inr ((0 : Int32), v19, m16)))
else ((zgr g m16 2 0 a0).bind fun r20 =>
(zald 101 g m16 r20 v15).bind fun v21 =>
(zrc g 2 a0 (f_X2_reachesOf g m16 a0 v6 v21)).bind fun (v22, m23) =>
(zgr g m23 2 0 a0).bind fun r24 =>
(zald 101 g m23 r24 (v15 + (1 : Int32))).bind fun v25 =>
if v22 = v25 then (zlt (v15 + (2 : Int32)) fun v27 =>
some (.inr ((1 : Int32), v27, m23)))
else (zlt (v15 + (2 : Int32)) fun v26 =>
some (.inr ((0 : Int32), v26, m23)))))
def b_X2_whose_4 (g : zGd) (a0 : Option Nat) : Int32 × Int32 × zMm → Option ((Int32 × zMm) ⊕ (Int32 × Int32 × zMm)) := fun (v5, v6, m7) =>
(zgr g m7 2 0 a0).bind fun r8 =>
(zald 101 g m7 r8 (1 : Int32)).bind fun v9 =>
if v9 ≤ v6 then (some (.inl ((v5, m7))))
else ((zLoop (b_X2_whose_21 g a0 v6) zFuel ((1 : Int32), (149 : Int32), m7)).bind fun (v11, m12) =>
if v11 = 0 then (zlt (v5 ||| (0 : Int32)) fun v28 =>
zlt (v6 + (1 : Int32)) fun v29 =>
some (.inr (v28, v29, m12)))
else (zlt (v5 ||| (zshl (1 : Int32) v6)) fun v30 =>
zlt (v6 + (1 : Int32)) fun v31 =>
some (.inr (v30, v31, m12))))
def f_X2_whose (g : zGd) (m : zMm) (a0 : Option Nat) : Option (Int32 × zMm) :=
(zLoop (b_X2_whose_4 g a0) zFuel ((0 : Int32), (0 : Int32), m)).bind fun (v2, m3) =>
some ((v2, m3))
theorem hy_X2_whose : zHy yX2_whose 0 := ⟨by decide, by decide, by decide +kernel⟩
set_option maxHeartbeats 4000000 in
theorem ok_X2_whose (l : Launch) (g : zGd) (m : zMm) (a0 : Option Nat) (z0 : Int32) (m0 : zMm) (h : f_X2_whose g m a0 = some (z0, m0)) : zCT l yX2_whose cX2_whose 5 (some .int) 8 184 g m [va_rf a0] (some (.int z0)) g m0 := by
  refine zCT.of (own := "QuiverKinModel") (mn := "whose") (by decide +kernel) rfl rfl (zla_r zla_0) (zls_r zls_0) (by decide) (fun X hxl hxg hxf hxt hxr hxn => ?_)
  have Kret : ∀ (y0 : Int32) (y1 : zMm), (y0, y1) = (z0, m0) → zRe X g y1 (some (.int y0)) := by
    intro y0 y1 e; cases e; exact ⟨hxf, hxr, hxn⟩
  subst hxl
  show zG X cX2_whose 5 "QuiverKinModel" "whose" 8 184 0 [(0, va_rf a0)] [] g m
  unfold f_X2_whose at h
  refine g_iconst (v := (0 : Int32)) dX2_whose_0 (by decide) ?_
  refine g_istore_n [(1, .int (0 : Int32)), (0, va_rf a0)] dX2_whose_1 (by decide) (zf_r zf_0) rfl ?_
  refine g_iconst (v := (0 : Int32)) dX2_whose_2 (by decide) ?_
  refine g_istore_n [(2, .int (0 : Int32)), (1, .int (0 : Int32)), (0, va_rf a0)] dX2_whose_3 (by decide) (zf_i (zf_r zf_0)) rfl ?_
  obtain ⟨o1, h1, h2⟩ := zB_e h
  have K1 : ∀ (v2 : Int32) (m3 : zMm), o1 = (v2, m3) → zG X cX2_whose 5 "QuiverKinModel" "whose" 8 184 99 [(1, .int v2)] [] g m3 := by
    intro v2 m3 e
    rw [e] at h2
    have h := h2
    refine g_iload_n dX2_whose_99 0 rfl ?_
    refine g_iret dX2_whose_100 hxt ?_
    have e := Option.some.inj h
    exact Kret _ _ e
  refine zG.sub [2, 1, 0] rfl ?_
  refine zLoop_ok (Φ := (fun (q : Int32 × Int32 × zMm) => match q with | (v5, v6, m7) => zG X cX2_whose 5 "QuiverKinModel" "whose" 8 184 4 [(0, va_rf a0), (1, .int v5), (2, .int v6)] [] g m7)) o1 ?_ zFuel _ h1
  rintro ⟨v5, v6, m7⟩ x4 h hl4 hr4
  unfold b_X2_whose_4 at h
  have K4 : ∀ (v5 : Int32) (v6 : Int32) (m7 : zMm), x4 = .inr (v5, v6, m7) → zG X cX2_whose 5 "QuiverKinModel" "whose" 8 184 4 [(0, va_rf a0), (1, .int v5), (2, .int v6)] [] g m7 := by
    intro v5 v6 m7 e
    exact hr4 _ e
  show zG X cX2_whose 5 "QuiverKinModel" "whose" 8 184 4 [(0, va_rf a0), (1, .int v5), (2, .int v6)] [] g m7
  refine g_iload_n dX2_whose_4 2 rfl ?_
  refine g_aload_n dX2_whose_5 0 rfl ?_
  refine gf_r zfd_2_0 q1410  (fun _ h9 => h9) dX2_whose_6 h (fun r8 h => ?_)
  refine g_iconst (v := (1 : Int32)) dX2_whose_9 (by decide) ?_
  refine g_iald dX2_whose_10 h (fun v9 h => ?_)
  refine g_icmp_ge 99 dX2_whose_11 (by decide) (fun c => ?_) (fun c => ?_)
  · have h := zite_p h c
    refine zG.sub [1] rfl ?_
    have e := Option.some.inj h
    have e := hl4 _ e.symm
    exact K1 _ _ e.symm
  · have h := zite_n h c
    refine g_iconst (v := (1 : Int32)) dX2_whose_14 (by decide) ?_
    refine g_istore_n [(3, .int (1 : Int32)), (0, va_rf a0), (1, .int v5), (2, .int v6)] dX2_whose_15 (by decide) (zf_r (zf_i (zf_i zf_0))) rfl ?_
    refine g_sipush (v := (149 : Int32)) dX2_whose_16 (by decide) ?_
    refine g_istore [(4, .int (149 : Int32)), (3, .int (1 : Int32)), (0, va_rf a0), (1, .int v5), (2, .int v6)] dX2_whose_19 (by decide) (zf_i (zf_r (zf_i (zf_i zf_0)))) rfl ?_
    obtain ⟨o10, h1, h2⟩ := zB_e h
    have K10 : ∀ (v11 : Int32) (m12 : zMm), o10 = (v11, m12) → zG X cX2_whose 5 "QuiverKinModel" "whose" 8 184 79 [(0, va_rf a0), (1, .int v5), (2, .int v6), (3, .int v11)] [] g m12 := by
      intro v11 m12 e
      rw [e] at h2
      have h := h2
      refine g_iload_n dX2_whose_79 1 rfl ?_
      refine g_iload_n dX2_whose_80 3 rfl ?_
      refine g_if_eq 90 dX2_whose_81 (by decide) (fun c => ?_) (fun c => ?_)
      · have h := zite_p h c
        refine g_iconst (v := (0 : Int32)) dX2_whose_90 (by decide) ?_
        refine g_ior dX2_whose_91 ?_
        refine g_leti h (fun v28 h => ?_)
        refine g_istore_n [(1, .int v28), (0, va_rf a0), (2, .int v6), (3, .int v11)] dX2_whose_92 (by decide) (zf_r (zf_i (zf_i (zf_i zf_0)))) rfl ?_
        refine g_iinc (v := (1 : Int32)) [(1, .int v28), (0, va_rf a0), (3, .int v11)] dX2_whose_93 2 rfl (by decide) (by decide) (zf_i (zf_r (zf_i (zf_i zf_0)))) rfl h (fun v29 h => ?_)
        refine g_goto 4 dX2_whose_96 (by decide) ?_
        refine zG.sub [2, 1, 0] rfl ?_
        have e := Option.some.inj h
        exact K4 _ _ _ e.symm
      · have h := zite_n h c
        refine g_iconst (v := (1 : Int32)) dX2_whose_84 (by decide) ?_
        refine g_iload_n dX2_whose_85 2 rfl ?_
        refine g_ishl dX2_whose_86 ?_
        refine g_goto 91 dX2_whose_87 (by decide) ?_
        refine g_ior dX2_whose_91 ?_
        refine g_leti h (fun v30 h => ?_)
        refine g_istore_n [(1, .int v30), (0, va_rf a0), (2, .int v6), (3, .int v11)] dX2_whose_92 (by decide) (zf_r (zf_i (zf_i (zf_i zf_0)))) rfl ?_
        refine g_iinc (v := (1 : Int32)) [(1, .int v30), (0, va_rf a0), (3, .int v11)] dX2_whose_93 2 rfl (by decide) (by decide) (zf_i (zf_r (zf_i (zf_i zf_0)))) rfl h (fun v31 h => ?_)
        refine g_goto 4 dX2_whose_96 (by decide) ?_
        refine zG.sub [2, 1, 0] rfl ?_
        have e := Option.some.inj h
        exact K4 _ _ _ e.symm
    refine zG.sub [2, 3, 4, 1, 0] rfl ?_
    refine zLoop_ok (Φ := (fun (q : Int32 × Int32 × zMm) => match q with | (v14, v15, m16) => zG X cX2_whose 5 "QuiverKinModel" "whose" 8 184 21 [(0, va_rf a0), (1, .int v5), (2, .int v6), (3, .int v14), (4, .int v15)] [] g m16)) o10 ?_ zFuel _ h1
    rintro ⟨v14, v15, m16⟩ x13 h hl13 hr13
    unfold b_X2_whose_21 at h
    have K13 : ∀ (v14 : Int32) (v15 : Int32) (m16 : zMm), x13 = .inr (v14, v15, m16) → zG X cX2_whose 5 "QuiverKinModel" "whose" 8 184 21 [(0, va_rf a0), (1, .int v5), (2, .int v6), (3, .int v14), (4, .int v15)] [] g m16 := by
      intro v14 v15 m16 e
      exact hr13 _ e
    show zG X cX2_whose 5 "QuiverKinModel" "whose" 8 184 21 [(0, va_rf a0), (1, .int v5), (2, .int v6), (3, .int v14), (4, .int v15)] [] g m16
    refine g_iload dX2_whose_21 4 rfl ?_
    refine g_sipush (v := (149 : Int32)) dX2_whose_23 (by decide) ?_
    refine g_iconst (v := (2 : Int32)) dX2_whose_26 (by decide) ?_
    refine g_aload_n dX2_whose_27 0 rfl ?_
    refine gf_r zfd_2_0 q1410  (fun _ h9 => h9) dX2_whose_28 h (fun r17 h => ?_)
    refine g_bipush (v := (6 : Int32)) dX2_whose_31 (by decide) ?_
    refine g_iald dX2_whose_33 h (fun v18 h => ?_)
    refine g_imul dX2_whose_34 ?_
    refine g_iadd dX2_whose_35 ?_
    refine g_icmp_ge 79 dX2_whose_36 (by decide) (fun c => ?_) (fun c => ?_)
    · have h := zite_p h c
      refine zG.sub [0, 1, 2, 3] rfl ?_
      have e := Option.some.inj h
      have e := hl13 _ e.symm
      exact K10 _ _ e.symm
    · have h := zite_n h c
      refine g_iload_n dX2_whose_39 3 rfl ?_
      refine g_if_eq 71 dX2_whose_40 (by decide) (fun c => ?_) (fun c => ?_)
      · have h := zite_p h c
        refine g_iconst (v := (0 : Int32)) dX2_whose_71 (by decide) ?_
        refine g_istore_n [(3, .int (0 : Int32)), (0, va_rf a0), (1, .int v5), (2, .int v6), (4, .int v15)] dX2_whose_72 (by decide) (zf_r (zf_i (zf_i (zf_i (zf_i zf_0))))) rfl ?_
        refine g_iinc (v := (2 : Int32)) [(3, .int (0 : Int32)), (0, va_rf a0), (1, .int v5), (2, .int v6)] dX2_whose_73 4 rfl (by decide) (by decide) (zf_i (zf_r (zf_i (zf_i (zf_i zf_0))))) rfl h (fun v19 h => ?_)
        refine g_goto 21 dX2_whose_76 (by decide) ?_
        refine zG.sub [2, 3, 4, 1, 0] rfl ?_
        have e := Option.some.inj h
        exact K13 _ _ _ e.symm
      · have h := zite_n h c
        refine g_aload_n dX2_whose_43 0 rfl ?_
        refine g_iload_n dX2_whose_44 2 rfl ?_
        refine g_aload_n dX2_whose_45 0 rfl ?_
        refine gf_r zfd_2_0 q1410  (fun _ h9 => h9) dX2_whose_46 h (fun r20 h => ?_)
        refine g_iload dX2_whose_49 4 rfl ?_
        refine g_iald dX2_whose_51 h (fun v21 h => ?_)
        refine g_cVMv (rv := fun x : Int32 => Value.int x) [.int v6, .int v21] (fun x0 m0 e0 => ok_X2_reachesOf (xl X) g m16 a0 v6 v21 x0 m0 e0) zc2 (by decide) (lw_V q1779 q1781 qs93 q126 q1782) rfl hy_X2_reachesOf rfl ⟨by decide, by decide⟩ rfl zc_0 (by decide) dX2_whose_52 h (fun v22 m23 h => ?_)
        refine g_aload_n dX2_whose_55 0 rfl ?_
        refine gf_r zfd_2_0 q1410  (fun _ h9 => h9) dX2_whose_56 h (fun r24 h => ?_)
        refine g_iload dX2_whose_59 4 rfl ?_
        refine g_iconst (v := (1 : Int32)) dX2_whose_61 (by decide) ?_
        refine g_iadd dX2_whose_62 ?_
        refine g_iald dX2_whose_63 h (fun v25 h => ?_)
        refine g_icmp_ne 71 dX2_whose_64 (by decide) (fun c => ?_) (fun c => ?_)
        · have h := zite_n h c
          refine g_iconst (v := (0 : Int32)) dX2_whose_71 (by decide) ?_
          refine g_istore_n [(3, .int (0 : Int32)), (0, va_rf a0), (1, .int v5), (2, .int v6), (4, .int v15)] dX2_whose_72 (by decide) (zf_r (zf_i (zf_i (zf_i (zf_i zf_0))))) rfl ?_
          refine g_iinc (v := (2 : Int32)) [(3, .int (0 : Int32)), (0, va_rf a0), (1, .int v5), (2, .int v6)] dX2_whose_73 4 rfl (by decide) (by decide) (zf_i (zf_r (zf_i (zf_i (zf_i zf_0))))) rfl h (fun v26 h => ?_)
          refine g_goto 21 dX2_whose_76 (by decide) ?_
          refine zG.sub [2, 3, 4, 1, 0] rfl ?_
          have e := Option.some.inj h
          exact K13 _ _ _ e.symm
        · have h := zite_p h c
          refine g_iconst (v := (1 : Int32)) dX2_whose_67 (by decide) ?_
          refine g_goto 72 dX2_whose_68 (by decide) ?_
          refine g_istore_n [(3, .int (1 : Int32)), (0, va_rf a0), (1, .int v5), (2, .int v6), (4, .int v15)] dX2_whose_72 (by decide) (zf_r (zf_i (zf_i (zf_i (zf_i zf_0))))) rfl ?_
          refine g_iinc (v := (2 : Int32)) [(3, .int (1 : Int32)), (0, va_rf a0), (1, .int v5), (2, .int v6)] dX2_whose_73 4 rfl (by decide) (by decide) (zf_i (zf_r (zf_i (zf_i (zf_i zf_0))))) rfl h (fun v27 h => ?_)
          refine g_goto 21 dX2_whose_76 (by decide) ?_
          refine zG.sub [2, 3, 4, 1, 0] rfl ?_
          have e := Option.some.inj h
          exact K13 _ _ _ e.symm
/-! QuiverKinModel.image -/
def f_X2_image (g : zGd) (m : zMm) (a0 : Option Nat) : Option (Int32 × zMm) :=
(zgr g m 2 0 a0).bind fun r1 =>
(zgr g m 2 1 a0).bind fun r2 =>
(f_X2_copy g m r1 r2).bind fun m3 =>
(zgr g m3 2 0 a0).bind fun r4 =>
(zald 101 g m3 r4 (7 : Int32)).bind fun v5 =>
some ((v5, m3))
theorem hy_X2_image : zHy yX2_image 0 := ⟨by decide, by decide, by decide +kernel⟩
set_option maxHeartbeats 4000000 in
theorem ok_X2_image (l : Launch) (g : zGd) (m : zMm) (a0 : Option Nat) (z0 : Int32) (m0 : zMm) (h : f_X2_image g m a0 = some (z0, m0)) : zCT l yX2_image cX2_image 1 (some .int) 2 42 g m [va_rf a0] (some (.int z0)) g m0 := by
  refine zCT.of (own := "QuiverKinModel") (mn := "image") (by decide +kernel) rfl rfl (zla_r zla_0) (zls_r zls_0) (by decide) (fun X hxl hxg hxf hxt hxr hxn => ?_)
  have Kret : ∀ (y0 : Int32) (y1 : zMm), (y0, y1) = (z0, m0) → zRe X g y1 (some (.int y0)) := by
    intro y0 y1 e; cases e; exact ⟨hxf, hxr, hxn⟩
  subst hxl
  show zG X cX2_image 1 "QuiverKinModel" "image" 2 42 0 [(0, va_rf a0)] [] g m
  unfold f_X2_image at h
  refine g_aload_n dX2_image_0 0 rfl ?_
  refine gf_r zfd_2_0 q1410  (fun _ h9 => h9) dX2_image_1 h (fun r1 h => ?_)
  refine g_aload_n dX2_image_4 0 rfl ?_
  refine gf_r zfd_2_1 q1411  (fun _ h9 => h9) dX2_image_5 h (fun r2 h => ?_)
  refine g_cSMn [va_rf r1, va_rf r2] (fun m0 e0 => ok_X2_copy (xl X) g m r1 r2 m0 e0) (lw_S q1407 q1408 q126 q1409) hy_X2_copy rfl ⟨by decide, by decide⟩ rfl zc_0 (by decide) dX2_image_8 h (fun m3 h => ?_)
  refine g_aload_n dX2_image_11 0 rfl ?_
  refine gf_r zfd_2_0 q1410  (fun _ h9 => h9) dX2_image_12 h (fun r4 h => ?_)
  refine g_bipush (v := (7 : Int32)) dX2_image_15 (by decide) ?_
  refine g_iald dX2_image_17 h (fun v5 h => ?_)
  refine g_iret dX2_image_18 hxt ?_
  have e := Option.some.inj h
  exact Kret _ _ e
/-! QuiverKinModel.back -/
def f_X2_back (g : zGd) (m : zMm) (a0 : Option Nat) : Option (Int32 × zMm) :=
(zgr g m 2 1 a0).bind fun r1 =>
(zgr g m 2 0 a0).bind fun r2 =>
(f_X2_copy g m r1 r2).bind fun m3 =>
(zgr g m3 2 0 a0).bind fun r4 =>
(zald 101 g m3 r4 (7 : Int32)).bind fun v5 =>
some ((v5, m3))
theorem hy_X2_back : zHy yX2_back 0 := ⟨by decide, by decide, by decide +kernel⟩
set_option maxHeartbeats 4000000 in
theorem ok_X2_back (l : Launch) (g : zGd) (m : zMm) (a0 : Option Nat) (z0 : Int32) (m0 : zMm) (h : f_X2_back g m a0 = some (z0, m0)) : zCT l yX2_back cX2_back 1 (some .int) 2 42 g m [va_rf a0] (some (.int z0)) g m0 := by
  refine zCT.of (own := "QuiverKinModel") (mn := "back") (by decide +kernel) rfl rfl (zla_r zla_0) (zls_r zls_0) (by decide) (fun X hxl hxg hxf hxt hxr hxn => ?_)
  have Kret : ∀ (y0 : Int32) (y1 : zMm), (y0, y1) = (z0, m0) → zRe X g y1 (some (.int y0)) := by
    intro y0 y1 e; cases e; exact ⟨hxf, hxr, hxn⟩
  subst hxl
  show zG X cX2_back 1 "QuiverKinModel" "back" 2 42 0 [(0, va_rf a0)] [] g m
  unfold f_X2_back at h
  refine g_aload_n dX2_back_0 0 rfl ?_
  refine gf_r zfd_2_1 q1411  (fun _ h9 => h9) dX2_back_1 h (fun r1 h => ?_)
  refine g_aload_n dX2_back_4 0 rfl ?_
  refine gf_r zfd_2_0 q1410  (fun _ h9 => h9) dX2_back_5 h (fun r2 h => ?_)
  refine g_cSMn [va_rf r1, va_rf r2] (fun m0 e0 => ok_X2_copy (xl X) g m r1 r2 m0 e0) (lw_S q1407 q1408 q126 q1409) hy_X2_copy rfl ⟨by decide, by decide⟩ rfl zc_0 (by decide) dX2_back_8 h (fun m3 h => ?_)
  refine g_aload_n dX2_back_11 0 rfl ?_
  refine gf_r zfd_2_0 q1410  (fun _ h9 => h9) dX2_back_12 h (fun r4 h => ?_)
  refine g_bipush (v := (7 : Int32)) dX2_back_15 (by decide) ?_
  refine g_iald dX2_back_17 h (fun v5 h => ?_)
  refine g_iret dX2_back_18 hxt ?_
  have e := Option.some.inj h
  exact Kret _ _ e
/-! QuiverKinModel.about -/
def f_X2_about (g : zGd) (m : zMm) (a0 : Option Nat) (a1 : Int32) : Option (Int32) :=
(f_X2_isIn a1 (0 : Int32) (6 : Int32)).bind fun v1 =>
if v1 = 0 then (if a1 = (7 : Int32) then ((zgi g m 2 4 a0).bind fun v2 =>
some (v2))
else (some ((-2 : Int32))))
else ((zgr g m 2 0 a0).bind fun r3 =>
(zald 101 g m r3 a1).bind fun v4 =>
some (v4))
theorem hy_X2_about : zHy yX2_about 1 := ⟨by decide, by decide, by decide +kernel⟩
set_option maxHeartbeats 4000000 in
theorem ok_X2_about (l : Launch) (g : zGd) (m : zMm) (a0 : Option Nat) (a1 : Int32) (z0 : Int32) (h : f_X2_about g m a0 a1 = some z0) : zCT l yX2_about cX2_about 2 (some .int) 2 42 g m [va_rf a0, .int a1] (some (.int z0)) g m := by
  refine zCT.of (own := "QuiverKinModel") (mn := "about") (by decide +kernel) rfl rfl (zla_r (zla_i zla_0)) (zls_r (zls_i zls_0)) (by decide) (fun X hxl hxg hxf hxt hxr hxn => ?_)
  have Kret : ∀ (y0 : Int32), y0 = z0 → zRe X g m (some (.int y0)) := by
    intro y0 e; cases e; exact ⟨hxf, hxr, hxn⟩
  subst hxl
  show zG X cX2_about 2 "QuiverKinModel" "about" 2 42 0 [(0, va_rf a0), (1, .int a1)] [] g m
  unfold f_X2_about at h
  refine g_iload_n dX2_about_0 1 rfl ?_
  refine g_iconst (v := (0 : Int32)) dX2_about_1 (by decide) ?_
  refine g_bipush (v := (6 : Int32)) dX2_about_2 (by decide) ?_
  refine g_cSRv (rv := fun x : Int32 => Value.int x) [.int a1, .int (0 : Int32), .int (6 : Int32)] (fun x0 e0 => ok_X2_isIn (xl X) g m a1 (0 : Int32) (6 : Int32) x0 e0) (lw_S q1534 q1535 q126 q1536) hy_X2_isIn rfl ⟨by decide, by decide⟩ rfl zc_0 (by decide) dX2_about_4 h (fun v1 h => ?_)
  refine g_if_eq 19 dX2_about_7 (by decide) (fun c => ?_) (fun c => ?_)
  · have h := zite_p h c
    refine g_iload_n dX2_about_19 1 rfl ?_
    refine g_bipush (v := (7 : Int32)) dX2_about_20 (by decide) ?_
    refine g_icmp_ne 32 dX2_about_22 (by decide) (fun c => ?_) (fun c => ?_)
    · have h := zite_n h c
      refine g_bipush (v := (-2 : Int32)) dX2_about_32 (by decide) ?_
      refine g_iret dX2_about_34 hxt ?_
      have e := Option.some.inj h
      exact Kret _ e
    · have h := zite_p h c
      refine g_aload_n dX2_about_25 0 rfl ?_
      refine gf_i zfd_2_4 q1414  (fun _ h9 => h9) dX2_about_26 h (fun v2 h => ?_)
      refine g_goto 34 dX2_about_29 (by decide) ?_
      refine g_iret dX2_about_34 hxt ?_
      have e := Option.some.inj h
      exact Kret _ e
  · have h := zite_n h c
    refine g_aload_n dX2_about_10 0 rfl ?_
    refine gf_r zfd_2_0 q1410  (fun _ h9 => h9) dX2_about_11 h (fun r3 h => ?_)
    refine g_iload_n dX2_about_14 1 rfl ?_
    refine g_iald dX2_about_15 h (fun v4 h => ?_)
    refine g_goto 34 dX2_about_16 (by decide) ?_
    refine g_iret dX2_about_34 hxt ?_
    have e := Option.some.inj h
    exact Kret _ e
