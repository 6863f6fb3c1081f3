/-! methods (printed by gen/run2.py) -/
set_option maxRecDepth 100000
/-! QuiverKin.answerTo -/
def b_X0_answerTo_7 (a0 : Int32) (a1 : Int32) : Int32 × Int32 → Option ((Int32) ⊕ (Int32 × Int32)) := fun (v4, v5) =>
if (3 : Int32) ≤ v5 then (some (.inl v4))
else ((f_X0_letterOf a0 v5).bind fun v6 =>
(f_X0_letterOf a1 v5).bind fun v7 =>
if v6 = v7 then (zlt (v4 + (1 : Int32)) fun v10 =>
zlt (v5 + (1 : Int32)) fun v11 =>
some (.inr (v10, v11)))
else (zlt (v4 + (0 : Int32)) fun v8 =>
zlt (v5 + (1 : Int32)) fun v9 =>
some (.inr (v8, v9))))
def b_X0_answerTo_45 (a0 : Int32) (a1 : Int32) : Int32 × Int32 → Option ((Int32) ⊕ (Int32 × Int32)) := fun (v15, v16) =>
if (5 : Int32) ≤ v16 then (some (.inl v15))
else ((f_X0_howOften a0 v16).bind fun v17 =>
(f_X0_howOften a1 v16).bind fun v18 =>
(f_J7_min v17 v18).bind fun v19 =>
zlt (v15 + v19) fun v20 =>
zlt (v16 + (1 : Int32)) fun v21 =>
some (.inr (v20, v21)))
def f_X0_answerTo (a0 : Int32) (a1 : Int32) : Option (Int32) :=
(zLoop (b_X0_answerTo_7 a0 a1) zFuel ((0 : Int32), (0 : Int32))).bind fun v2 =>
(zLoop (b_X0_answerTo_45 a0 a1) zFuel ((0 : Int32), (0 : Int32))).bind fun v13 =>
some (((((10 : Int32) * v2) + v13) - v2))
theorem hy_X0_answerTo : zHy yX0_answerTo 2 := ⟨by decide, by decide, by decide +kernel⟩
set_option maxHeartbeats 4000000 in
theorem ok_X0_answerTo (l : Launch) (g : zGd) (m : zMm) (a0 : Int32) (a1 : Int32) (z0 : Int32) (h : f_X0_answerTo a0 a1 = some z0) : zCT l yX0_answerTo cX0_answerTo 5 (some .int) 3 64 g m [.int a0, .int a1] (some (.int z0)) g m := by
  refine zCT.of (own := "QuiverKin") (mn := "answerTo") (by decide +kernel) rfl rfl (zla_i (zla_i zla_0)) (zls_i (zls_i zls_0)) (by decide) (fun X hxl hxg hxf hxt hxr hxn => ?_)
  have Kret : ∀ (y0 : Int32), y0 = z0 → zRe X g m (some (.int y0)) := by
    intro y0 e; cases e; exact ⟨hxf, hxr, hxn⟩
  subst hxl
  show zG X cX0_answerTo 5 "QuiverKin" "answerTo" 3 64 0 [(0, .int a0), (1, .int a1)] [] g m
  unfold f_X0_answerTo at h
  refine g_iconst (v := (0 : Int32)) dX0_answerTo_0 (by decide) ?_
  refine g_istore_n [(2, .int (0 : Int32)), (0, .int a0), (1, .int a1)] dX0_answerTo_1 (by decide) (zf_i (zf_i zf_0)) rfl ?_
  refine g_iconst (v := (0 : Int32)) dX0_answerTo_2 (by decide) ?_
  refine g_istore_n [(3, .int (0 : Int32)), (2, .int (0 : Int32)), (0, .int a0), (1, .int a1)] dX0_answerTo_3 (by decide) (zf_i (zf_i (zf_i zf_0))) rfl ?_
  refine g_iconst (v := (0 : Int32)) dX0_answerTo_4 (by decide) ?_
  refine g_istore [(4, .int (0 : Int32)), (3, .int (0 : Int32)), (2, .int (0 : Int32)), (0, .int a0), (1, .int a1)] dX0_answerTo_5 (by decide) (zf_i (zf_i (zf_i (zf_i zf_0)))) rfl ?_
  obtain ⟨o1, h1, h2⟩ := zB_e h
  have K1 : ∀ (v2 : Int32), o1 = v2 → zG X cX0_answerTo 5 "QuiverKin" "answerTo" 3 64 42 [(0, .int a0), (1, .int a1), (2, .int v2), (3, .int (0 : Int32))] [] g m := by
    intro v2 e
    rw [e] at h2
    have h := h2
    refine g_iconst (v := (0 : Int32)) dX0_answerTo_42 (by decide) ?_
    refine g_istore [(4, .int (0 : Int32)), (0, .int a0), (1, .int a1), (2, .int v2), (3, .int (0 : Int32))] dX0_answerTo_43 (by decide) (zf_i (zf_i (zf_i (zf_i zf_0)))) rfl ?_
    obtain ⟨o12, h1, h2⟩ := zB_e h
    have K12 : ∀ (v13 : Int32), o12 = v13 → zG X cX0_answerTo 5 "QuiverKin" "answerTo" 3 64 75 [(2, .int v2), (3, .int v13)] [] g m := by
      intro v13 e
      rw [e] at h2
      have h := h2
      refine g_bipush (v := (10 : Int32)) dX0_answerTo_75 (by decide) ?_
      refine g_iload_n dX0_answerTo_77 0 rfl ?_
      refine g_imul dX0_answerTo_78 ?_
      refine g_iload_n dX0_answerTo_79 1 rfl ?_
      refine g_iadd dX0_answerTo_80 ?_
      refine g_iload_n dX0_answerTo_81 0 rfl ?_
      refine g_isub dX0_answerTo_82 ?_
      refine g_iret dX0_answerTo_83 hxt ?_
      have e := Option.some.inj h
      exact Kret _ e
    refine zG.sub [1, 2, 3, 4, 0] rfl ?_
    refine zLoop_ok (Φ := (fun (q : Int32 × Int32) => match q with | (v15, v16) => zG X cX0_answerTo 5 "QuiverKin" "answerTo" 3 64 45 [(0, .int a0), (1, .int a1), (2, .int v2), (3, .int v15), (4, .int v16)] [] g m)) o12 ?_ zFuel _ h1
    rintro ⟨v15, v16⟩ x14 h hl14 hr14
    unfold b_X0_answerTo_45 at h
    have K14 : ∀ (v15 : Int32) (v16 : Int32), x14 = .inr (v15, v16) → zG X cX0_answerTo 5 "QuiverKin" "answerTo" 3 64 45 [(0, .int a0), (1, .int a1), (2, .int v2), (3, .int v15), (4, .int v16)] [] g m := by
      intro v15 v16 e
      exact hr14 _ e
    show zG X cX0_answerTo 5 "QuiverKin" "answerTo" 3 64 45 [(0, .int a0), (1, .int a1), (2, .int v2), (3, .int v15), (4, .int v16)] [] g m
    refine g_iload dX0_answerTo_45 4 rfl ?_
    refine g_iconst (v := (5 : Int32)) dX0_answerTo_47 (by decide) ?_
    refine g_icmp_ge 75 dX0_answerTo_48 (by decide) (fun c => ?_) (fun c => ?_)
    · have h := zite_p h c
      refine zG.sub [2, 3] rfl ?_
      have e := Option.some.inj h
      have e := hl14 _ e.symm
      exact K12 _ e.symm
    · have h := zite_n h c
      refine g_iload_n dX0_answerTo_51 3 rfl ?_
      refine g_iload_n dX0_answerTo_52 0 rfl ?_
      refine g_iload dX0_answerTo_53 4 rfl ?_
      refine g_cSRv (rv := fun x : Int32 => Value.int x) [.int a0, .int v16] (fun x0 e0 => ok_X0_howOften (xl X) g m a0 v16 x0 e0) (lw_S q1258 q1259 q123 q1260) hy_X0_howOften rfl ⟨by decide, by decide⟩ rfl (zc_i zc_0) (by decide) dX0_answerTo_55 h (fun v17 h => ?_)
      refine g_iload_n dX0_answerTo_58 1 rfl ?_
      refine g_iload dX0_answerTo_59 4 rfl ?_
      refine g_cSRv (rv := fun x : Int32 => Value.int x) [.int a1, .int v16] (fun x0 e0 => ok_X0_howOften (xl X) g m a1 v16 x0 e0) (lw_S q1258 q1259 q123 q1260) hy_X0_howOften rfl ⟨by decide, by decide⟩ rfl (zc_i (zc_i zc_0)) (by decide) dX0_answerTo_61 h (fun v18 h => ?_)
      refine g_cSRv (rv := fun x : Int32 => Value.int x) [.int v17, .int v18] (fun x0 e0 => ok_J7_min (xl X) g m v17 v18 x0 e0) (lw_S q907 q485 q136 q486) hy_J7_min rfl ⟨by decide, by decide⟩ rfl (zc_i zc_0) (by decide) dX0_answerTo_64 h (fun v19 h => ?_)
      refine g_iadd dX0_answerTo_67 ?_
      refine g_leti h (fun v20 h => ?_)
      refine g_istore_n [(3, .int v20), (0, .int a0), (1, .int a1), (2, .int v2), (4, .int v16)] dX0_answerTo_68 (by decide) (zf_i (zf_i (zf_i (zf_i (zf_i zf_0))))) rfl ?_
      refine g_iinc (v := (1 : Int32)) [(3, .int v20), (0, .int a0), (1, .int a1), (2, .int v2)] dX0_answerTo_69 4 rfl (by decide) (by decide) (zf_i (zf_i (zf_i (zf_i (zf_i zf_0))))) rfl h (fun v21 h => ?_)
      refine g_goto 45 dX0_answerTo_72 (by decide) ?_
      refine zG.sub [2, 3, 4, 1, 0] rfl ?_
      have e := Option.some.inj h
      exact K14 _ _ e.symm
  refine zG.sub [3, 4, 2, 1, 0] rfl ?_
  refine zLoop_ok (Φ := (fun (q : Int32 × Int32) => match q with | (v4, v5) => zG X cX0_answerTo 5 "QuiverKin" "answerTo" 3 64 7 [(0, .int a0), (1, .int a1), (2, .int v4), (3, .int (0 : Int32)), (4, .int v5)] [] g m)) o1 ?_ zFuel _ h1
  rintro ⟨v4, v5⟩ x3 h hl3 hr3
  unfold b_X0_answerTo_7 at h
  have K3 : ∀ (v4 : Int32) (v5 : Int32), x3 = .inr (v4, v5) → zG X cX0_answerTo 5 "QuiverKin" "answerTo" 3 64 7 [(0, .int a0), (1, .int a1), (2, .int v4), (3, .int (0 : Int32)), (4, .int v5)] [] g m := by
    intro v4 v5 e
    exact hr3 _ e
  show zG X cX0_answerTo 5 "QuiverKin" "answerTo" 3 64 7 [(0, .int a0), (1, .int a1), (2, .int v4), (3, .int (0 : Int32)), (4, .int v5)] [] g m
  refine g_iload dX0_answerTo_7 4 rfl ?_
  refine g_iconst (v := (3 : Int32)) dX0_answerTo_9 (by decide) ?_
  refine g_icmp_ge 42 dX0_answerTo_10 (by decide) (fun c => ?_) (fun c => ?_)
  · have h := zite_p h c
    refine zG.sub [0, 1, 2, 3] rfl ?_
    have e := Option.some.inj h
    have e := hl3 _ e.symm
    exact K1 _ e.symm
  · have h := zite_n h c
    refine g_iload_n dX0_answerTo_13 2 rfl ?_
    refine g_iload_n dX0_answerTo_14 0 rfl ?_
    refine g_iload dX0_answerTo_15 4 rfl ?_
    refine g_cSRv (rv := fun x : Int32 => Value.int x) [.int a0, .int v5] (fun x0 e0 => ok_X0_letterOf (xl X) g m a0 v5 x0 e0) (lw_S q1255 q1256 q123 q1257) hy_X0_letterOf rfl ⟨by decide, by decide⟩ rfl (zc_i zc_0) (by decide) dX0_answerTo_17 h (fun v6 h => ?_)
    refine g_iload_n dX0_answerTo_20 1 rfl ?_
    refine g_iload dX0_answerTo_21 4 rfl ?_
    refine g_cSRv (rv := fun x : Int32 => Value.int x) [.int a1, .int v5] (fun x0 e0 => ok_X0_letterOf (xl X) g m a1 v5 x0 e0) (lw_S q1255 q1256 q123 q1257) hy_X0_letterOf rfl ⟨by decide, by decide⟩ rfl (zc_i (zc_i zc_0)) (by decide) dX0_answerTo_23 h (fun v7 h => ?_)
    refine g_icmp_ne 33 dX0_answerTo_26 (by decide) (fun c => ?_) (fun c => ?_)
    · have h := zite_n h c
      refine g_iconst (v := (0 : Int32)) dX0_answerTo_33 (by decide) ?_
      refine g_iadd dX0_answerTo_34 ?_
      refine g_leti h (fun v8 h => ?_)
      refine g_istore_n [(2, .int v8), (0, .int a0), (1, .int a1), (3, .int (0 : Int32)), (4, .int v5)] dX0_answerTo_35 (by decide) (zf_i (zf_i (zf_i (zf_i (zf_i zf_0))))) rfl ?_
      refine g_iinc (v := (1 : Int32)) [(2, .int v8), (0, .int a0), (1, .int a1), (3, .int (0 : Int32))] dX0_answerTo_36 4 rfl (by decide) (by decide) (zf_i (zf_i (zf_i (zf_i (zf_i zf_0))))) rfl h (fun v9 h => ?_)
      refine g_goto 7 dX0_answerTo_39 (by decide) ?_
      refine zG.sub [2, 3, 1, 4, 0] rfl ?_
      have e := Option.some.inj h
      exact K3 _ _ e.symm
    · have h := zite_p h c
      refine g_iconst (v := (1 : Int32)) dX0_answerTo_29 (by decide) ?_
      refine g_goto 34 dX0_answerTo_30 (by decide) ?_
      refine g_iadd dX0_answerTo_34 ?_
      refine g_leti h (fun v10 h => ?_)
      refine g_istore_n [(2, .int v10), (0, .int a0), (1, .int a1), (3, .int (0 : Int32)), (4, .int v5)] dX0_answerTo_35 (by decide) (zf_i (zf_i (zf_i (zf_i (zf_i zf_0))))) rfl ?_
      refine g_iinc (v := (1 : Int32)) [(2, .int v10), (0, .int a0), (1, .int a1), (3, .int (0 : Int32))] dX0_answerTo_36 4 rfl (by decide) (by decide) (zf_i (zf_i (zf_i (zf_i (zf_i zf_0))))) rfl h (fun v11 h => ?_)
      refine g_goto 7 dX0_answerTo_39 (by decide) ?_
      refine zG.sub [2, 3, 1, 4, 0] rfl ?_
      have e := Option.some.inj h
      exact K3 _ _ e.symm
/-! QuiverKin.answer -/
def f_X0_answer (g : zGd) (m : zMm) (a0 : Option Nat) (a1 : Int32) (a2 : Int32) : Option (Int32) :=
(f_X0_isRow a1).bind fun v1 =>
if v1 = 0 then (some ((-1 : Int32)))
else ((f_X0_isRow a2).bind fun v2 =>
if v2 = 0 then (some ((-1 : Int32)))
else ((f_X0_answerTo a1 a2).bind fun v3 =>
some (v3)))
theorem hy_X0_answer : zHy yX0_answer 2 := ⟨by decide, by decide, by decide +kernel⟩
set_option maxHeartbeats 4000000 in
theorem ok_X0_answer (l : Launch) (g : zGd) (m : zMm) (a0 : Option Nat) (a1 : Int32) (a2 : Int32) (z0 : Int32) (h : f_X0_answer g m a0 a1 a2 = some z0) : zCT l yX0_answer cX0_answer 3 (some .int) 4 88 g m [va_rf a0, .int a1, .int a2] (some (.int z0)) g m := by
  refine zCT.of (own := "QuiverKin") (mn := "answer") (by decide +kernel) rfl rfl (zla_r (zla_i (zla_i zla_0))) (zls_r (zls_i (zls_i zls_0))) (by decide) (fun X hxl hxg hxf hxt hxr hxn => ?_)
  have Kret : ∀ (y0 : Int32), y0 = z0 → zRe X g m (some (.int y0)) := by
    intro y0 e; cases e; exact ⟨hxf, hxr, hxn⟩
  subst hxl
  show zG X cX0_answer 3 "QuiverKin" "answer" 4 88 0 [(0, va_rf a0), (1, .int a1), (2, .int a2)] [] g m
  unfold f_X0_answer at h
  refine g_iload_n dX0_answer_0 1 rfl ?_
  refine g_cSRv (rv := fun x : Int32 => Value.int x) [.int a1] (fun x0 e0 => ok_X0_isRow (xl X) g m a1 x0 e0) (lw_S q1241 q1242 q123 q1243) hy_X0_isRow rfl ⟨by decide, by decide⟩ rfl zc_0 (by decide) dX0_answer_1 h (fun v1 h => ?_)
  refine g_if_eq 22 dX0_answer_4 (by decide) (fun c => ?_) (fun c => ?_)
  · have h := zite_p h c
    refine g_iconst (v := (-1 : Int32)) dX0_answer_22 (by decide) ?_
    refine g_iret dX0_answer_23 hxt ?_
    have e := Option.some.inj h
    exact Kret _ e
  · have h := zite_n h c
    refine g_iload_n dX0_answer_7 2 rfl ?_
    refine g_cSRv (rv := fun x : Int32 => Value.int x) [.int a2] (fun x0 e0 => ok_X0_isRow (xl X) g m a2 x0 e0) (lw_S q1241 q1242 q123 q1243) hy_X0_isRow rfl ⟨by decide, by decide⟩ rfl zc_0 (by decide) dX0_answer_8 h (fun v2 h => ?_)
    refine g_if_eq 22 dX0_answer_11 (by decide) (fun c => ?_) (fun c => ?_)
    · have h := zite_p h c
      refine g_iconst (v := (-1 : Int32)) dX0_answer_22 (by decide) ?_
      refine g_iret dX0_answer_23 hxt ?_
      have e := Option.some.inj h
      exact Kret _ e
    · have h := zite_n h c
      refine g_iload_n dX0_answer_14 1 rfl ?_
      refine g_iload_n dX0_answer_15 2 rfl ?_
      refine g_cSRv (rv := fun x : Int32 => Value.int x) [.int a1, .int a2] (fun x0 e0 => ok_X0_answerTo (xl X) g m a1 a2 x0 e0) (lw_S q1252 q1253 q123 q1254) hy_X0_answerTo rfl ⟨by decide, by decide⟩ rfl zc_0 (by decide) dX0_answer_16 h (fun v3 h => ?_)
      refine g_goto 23 dX0_answer_19 (by decide) ?_
      refine g_iret dX0_answer_23 hxt ?_
      have e := Option.some.inj h
      exact Kret _ e
/-! QuiverKin.doesFit -/
def b_X0_doesFit_2 (g : zGd) (m : zMm) (a0 : Option Nat) (a1 : Int32) : Int32 → Option ((((Int32) ⊕ (Unit))) ⊕ (Int32)) := fun v3 =>
(zgr g m 0 0 a0).bind fun r4 =>
(zgr g m 1 0 r4).bind fun r5 =>
(zald 101 g m r5 (4 : Int32)).bind fun v6 =>
if v6 ≤ v3 then (some (.inl (.inr ())))
else ((zgr g m 0 0 a0).bind fun r7 =>
(zgr g m 1 7 r7).bind fun r8 =>
(zaldr 106 g m r8 v3).bind fun r9 =>
(zald 101 g m r9 (0 : Int32)).bind fun v10 =>
(f_X0_answerTo v10 a1).bind fun v11 =>
(zgr g m 0 0 a0).bind fun r12 =>
(zgr g m 1 7 r12).bind fun r13 =>
(zaldr 106 g m r13 v3).bind fun r14 =>
(zald 101 g m r14 (1 : Int32)).bind fun v15 =>
if v11 = v15 then (zlt (v3 + (1 : Int32)) fun v16 =>
some (.inr v16))
else (some (.inl (.inl ((0 : Int32))))))
def f_X0_doesFit (g : zGd) (m : zMm) (a0 : Option Nat) (a1 : Int32) : Option (Int32) :=
zEx (σ := Unit) (zLoop (b_X0_doesFit_2 g m a0 a1) zFuel (0 : Int32)) fun _ =>
some ((1 : Int32))
theorem hy_X0_doesFit : zHy yX0_doesFit 1 := ⟨by decide, by decide, by decide +kernel⟩
set_option maxHeartbeats 4000000 in
theorem ok_X0_doesFit (l : Launch) (g : zGd) (m : zMm) (a0 : Option Nat) (a1 : Int32) (z0 : Int32) (h : f_X0_doesFit g m a0 a1 = some z0) : zCT l yX0_doesFit cX0_doesFit 3 (some .boolean) 4 88 g m [va_rf a0, .int a1] (some (.int z0)) g m := by
  refine zCT.of (own := "QuiverKin") (mn := "doesFit") (by decide +kernel) rfl rfl (zla_r (zla_i zla_0)) (zls_r (zls_i zls_0)) (by decide) (fun X hxl hxg hxf hxt hxr hxn => ?_)
  have Kret : ∀ (y0 : Int32), y0 = z0 → zRe X g m (some (.int y0)) := by
    intro y0 e; cases e; exact ⟨hxf, hxr, hxn⟩
  subst hxl
  show zG X cX0_doesFit 3 "QuiverKin" "doesFit" 4 88 0 [(0, va_rf a0), (1, .int a1)] [] g m
  unfold f_X0_doesFit at h
  refine g_iconst (v := (0 : Int32)) dX0_doesFit_0 (by decide) ?_
  refine g_istore_n [(2, .int (0 : Int32)), (0, va_rf a0), (1, .int a1)] dX0_doesFit_1 (by decide) (zf_r (zf_i zf_0)) rfl ?_
  obtain ⟨o1, h1, hl1, hr1⟩ := zEx_e h
  have K1 : o1 = .inr () → zG X cX0_doesFit 3 "QuiverKin" "doesFit" 4 88 52 [] [] g m := by
    intro e
    have h := hr1 _ e
    refine g_iconst (v := (1 : Int32)) dX0_doesFit_52 (by decide) ?_
    refine g_zret dX0_doesFit_53 hxt rfl ?_
    have e := Option.some.inj h
    exact Kret _ e
  refine zG.sub [1, 2, 0] rfl ?_
  refine zLoop_ok (Φ := (fun v3 : Int32 => zG X cX0_doesFit 3 "QuiverKin" "doesFit" 4 88 2 [(0, va_rf a0), (1, .int a1), (2, .int v3)] [] g m)) o1 ?_ zFuel _ h1
  rintro v3 x2 h hl2 hr2
  unfold b_X0_doesFit_2 at h
  have K2 : ∀ (v3 : Int32), x2 = .inr v3 → zG X cX0_doesFit 3 "QuiverKin" "doesFit" 4 88 2 [(0, va_rf a0), (1, .int a1), (2, .int v3)] [] g m := by
    intro v3 e
    exact hr2 _ e
  show zG X cX0_doesFit 3 "QuiverKin" "doesFit" 4 88 2 [(0, va_rf a0), (1, .int a1), (2, .int v3)] [] g m
  refine g_iload_n dX0_doesFit_2 2 rfl ?_
  refine g_aload_n dX0_doesFit_3 0 rfl ?_
  refine gf_r zfd_0_0 q239  (fun _ h9 => h9) dX0_doesFit_4 h (fun r4 h => ?_)
  refine gf_rN zfd_1_0 q177  (fun _ h9 => h9) dX0_doesFit_7 h (fun r5 h => ?_)
  refine g_iconst (v := (4 : Int32)) dX0_doesFit_10 (by decide) ?_
  refine g_iald dX0_doesFit_11 h (fun v6 h => ?_)
  refine g_icmp_ge 52 dX0_doesFit_12 (by decide) (fun c => ?_) (fun c => ?_)
  · have h := zite_p h c
    refine zG.sub [] rfl ?_
    have e := Option.some.inj h
    have e := hl2 _ e.symm
    exact K1 e.symm
  · have h := zite_n h c
    refine g_aload_n dX0_doesFit_15 0 rfl ?_
    refine gf_r zfd_0_0 q239  (fun _ h9 => h9) dX0_doesFit_16 h (fun r7 h => ?_)
    refine gf_rN zfd_1_7 q191  (fun _ h9 => h9) dX0_doesFit_19 h (fun r8 h => ?_)
    refine g_iload_n dX0_doesFit_22 2 rfl ?_
    refine g_aald 5 rfl rfl (by decide)  dX0_doesFit_23 h (fun r9 h => ?_)
    refine g_iconst (v := (0 : Int32)) dX0_doesFit_24 (by decide) ?_
    refine g_iald dX0_doesFit_25 h (fun v10 h => ?_)
    refine g_iload_n dX0_doesFit_26 1 rfl ?_
    refine g_cSRv (rv := fun x : Int32 => Value.int x) [.int v10, .int a1] (fun x0 e0 => ok_X0_answerTo (xl X) g m v10 a1 x0 e0) (lw_S q1252 q1253 q123 q1254) hy_X0_answerTo rfl ⟨by decide, by decide⟩ rfl zc_0 (by decide) dX0_doesFit_27 h (fun v11 h => ?_)
    refine g_aload_n dX0_doesFit_30 0 rfl ?_
    refine gf_r zfd_0_0 q239  (fun _ h9 => h9) dX0_doesFit_31 h (fun r12 h => ?_)
    refine gf_rN zfd_1_7 q191  (fun _ h9 => h9) dX0_doesFit_34 h (fun r13 h => ?_)
    refine g_iload_n dX0_doesFit_37 2 rfl ?_
    refine g_aald 5 rfl rfl (by decide)  dX0_doesFit_38 h (fun r14 h => ?_)
    refine g_iconst (v := (1 : Int32)) dX0_doesFit_39 (by decide) ?_
    refine g_iald dX0_doesFit_40 h (fun v15 h => ?_)
    refine g_icmp_eq 46 dX0_doesFit_41 (by decide) (fun c => ?_) (fun c => ?_)
    · have h := zite_p h c
      refine g_iinc (v := (1 : Int32)) [(0, va_rf a0), (1, .int a1)] dX0_doesFit_46 2 rfl (by decide) (by decide) (zf_r (zf_i (zf_i zf_0))) rfl h (fun v16 h => ?_)
      refine g_goto 2 dX0_doesFit_49 (by decide) ?_
      refine zG.sub [1, 2, 0] rfl ?_
      have e := Option.some.inj h
      exact K2 _ e.symm
    · have h := zite_n h c
      refine g_iconst (v := (0 : Int32)) dX0_doesFit_44 (by decide) ?_
      refine g_zret dX0_doesFit_45 hxt rfl ?_
      have e := Option.some.inj h
      have e := hl2 _ e.symm
      have e := hl1 _ e.symm
      exact Kret _ e
/-! QuiverKin.laysFits -/
def b_X0_laysFits_7 (g : zGd) (a0 : Option Nat) : Int32 × zMm → Option ((zMm) ⊕ (Int32 × zMm)) := fun (v5, m6) =>
if (125 : Int32) ≤ v5 then (some (.inl m6))
else ((zrc g 0 a0 (f_X0_doesFit g m6 a0 v5)).bind fun v7 =>
if v7 = 0 then (zlt (v5 + (1 : Int32)) fun v14 =>
some (.inr (v14, m6)))
else ((zgr g m6 0 17 a0).bind fun r8 =>
(zgi g m6 0 18 a0).bind fun v9 =>
(zast 101 g m6 r8 v9 v5).bind fun m10 =>
(zgi g m10 0 18 a0).bind fun v11 =>
(zpi g m10 0 18 a0 (v11 + (1 : Int32))).bind fun m12 =>
zlt (v5 + (1 : Int32)) fun v13 =>
some (.inr (v13, m12))))
def f_X0_laysFits (g : zGd) (m : zMm) (a0 : Option Nat) : Option (zMm) :=
(zpi g m 0 18 a0 (0 : Int32)).bind fun m1 =>
(zLoop (b_X0_laysFits_7 g a0) zFuel ((0 : Int32), m1)).bind fun m3 =>
some (m3)
theorem hy_X0_laysFits : zHy yX0_laysFits 0 := ⟨by decide, by decide, by decide +kernel⟩
set_option maxHeartbeats 4000000 in
theorem ok_X0_laysFits (l : Launch) (g : zGd) (m : zMm) (a0 : Option Nat) (m0 : zMm) (h : f_X0_laysFits g m a0 = some m0) : zCT l yX0_laysFits cX0_laysFits 2 none 5 110 g m [va_rf a0] none g m0 := by
  refine zCT.of (own := "QuiverKin") (mn := "laysFits") (by decide +kernel) rfl rfl (zla_r zla_0) (zls_r zls_0) (by decide) (fun X hxl hxg hxf hxt hxr hxn => ?_)
  have Kret : ∀ (y0 : zMm), y0 = m0 → zRe X g y0 none := by
    intro y0 e; cases e; exact ⟨hxf, hxr, hxn⟩
  subst hxl
  show zG X cX0_laysFits 2 "QuiverKin" "laysFits" 5 110 0 [(0, va_rf a0)] [] g m
  unfold f_X0_laysFits at h
  refine g_aload_n dX0_laysFits_0 0 rfl ?_
  refine g_iconst (v := (0 : Int32)) dX0_laysFits_1 (by decide) ?_
  refine gp_i zpd_0_18 q257 (fun _ h9 => h9) dX0_laysFits_2 h (fun m1 h => ?_)
  refine g_iconst (v := (0 : Int32)) dX0_laysFits_5 (by decide) ?_
  refine g_istore_n [(1, .int (0 : Int32)), (0, va_rf a0)] dX0_laysFits_6 (by decide) (zf_r zf_0) rfl ?_
  obtain ⟨o2, h1, h2⟩ := zB_e h
  have K2 : ∀ (m3 : zMm), o2 = m3 → zG X cX0_laysFits 2 "QuiverKin" "laysFits" 5 110 50 [] [] g m3 := by
    intro m3 e
    rw [e] at h2
    have h := h2
    refine g_vret dX0_laysFits_50 hxt ?_
    have e := Option.some.inj h
    exact Kret _ e
  refine zG.sub [1, 0] rfl ?_
  refine zLoop_ok (Φ := (fun (q : Int32 × zMm) => match q with | (v5, m6) => zG X cX0_laysFits 2 "QuiverKin" "laysFits" 5 110 7 [(0, va_rf a0), (1, .int v5)] [] g m6)) o2 ?_ zFuel _ h1
  rintro ⟨v5, m6⟩ x4 h hl4 hr4
  unfold b_X0_laysFits_7 at h
  have K4 : ∀ (v5 : Int32) (m6 : zMm), x4 = .inr (v5, m6) → zG X cX0_laysFits 2 "QuiverKin" "laysFits" 5 110 7 [(0, va_rf a0), (1, .int v5)] [] g m6 := by
    intro v5 m6 e
    exact hr4 _ e
  show zG X cX0_laysFits 2 "QuiverKin" "laysFits" 5 110 7 [(0, va_rf a0), (1, .int v5)] [] g m6
  refine g_iload_n dX0_laysFits_7 1 rfl ?_
  refine g_bipush (v := (125 : Int32)) dX0_laysFits_8 (by decide) ?_
  refine g_icmp_ge 50 dX0_laysFits_10 (by decide) (fun c => ?_) (fun c => ?_)
  · have h := zite_p h c
    refine zG.sub [] rfl ?_
    have e := Option.some.inj h
    have e := hl4 _ e.symm
    exact K2 _ e.symm
  · have h := zite_n h c
    refine g_aload_n dX0_laysFits_13 0 rfl ?_
    refine g_iload_n dX0_laysFits_14 1 rfl ?_
    refine g_cVRv (rv := fun x : Int32 => Value.int x) [.int v5] (fun x0 e0 => ok_X0_doesFit (xl X) g m6 a0 v5 x0 e0) zc0 (by decide) (lw_V q1269 q1271 qs47 q123 q1272) rfl hy_X0_doesFit rfl ⟨by decide, by decide⟩ rfl zc_0 (by decide) dX0_laysFits_15 h (fun v7 h => ?_)
    refine g_if_ne 24 dX0_laysFits_18 (by decide) (fun c => ?_) (fun c => ?_)
    · have h := zite_n h c
      refine g_aload_n dX0_laysFits_24 0 rfl ?_
      refine gf_r zfd_0_17 q256  (fun _ h9 => h9) dX0_laysFits_25 h (fun r8 h => ?_)
      refine g_aload_n dX0_laysFits_28 0 rfl ?_
      refine gf_i zfd_0_18 q257  (fun _ h9 => h9) dX0_laysFits_29 h (fun v9 h => ?_)
      refine g_iload_n dX0_laysFits_32 1 rfl ?_
      refine g_iast dX0_laysFits_33 h (fun m10 h => ?_)
      refine g_aload_n dX0_laysFits_34 0 rfl ?_
      refine g_dup dX0_laysFits_35 (zcat_r _) ?_
      refine gf_i zfd_0_18 q257  (fun _ h9 => h9) dX0_laysFits_36 h (fun v11 h => ?_)
      refine g_iconst (v := (1 : Int32)) dX0_laysFits_39 (by decide) ?_
      refine g_iadd dX0_laysFits_40 ?_
      refine gp_i zpd_0_18 q257 (fun _ h9 => h9) dX0_laysFits_41 h (fun m12 h => ?_)
      refine g_iinc (v := (1 : Int32)) [(0, va_rf a0)] dX0_laysFits_44 1 rfl (by decide) (by decide) (zf_r (zf_i zf_0)) rfl h (fun v13 h => ?_)
      refine g_goto 7 dX0_laysFits_47 (by decide) ?_
      refine zG.sub [1, 0] rfl ?_
      have e := Option.some.inj h
      exact K4 _ _ e.symm
    · have h := zite_p h c
      refine g_goto 44 dX0_laysFits_21 (by decide) ?_
      refine g_iinc (v := (1 : Int32)) [(0, va_rf a0)] dX0_laysFits_44 1 rfl (by decide) (by decide) (zf_r (zf_i zf_0)) rfl h (fun v14 h => ?_)
      refine g_goto 7 dX0_laysFits_47 (by decide) ?_
      refine zG.sub [1, 0] rfl ?_
      have e := Option.some.inj h
      exact K4 _ _ e.symm
/-! QuiverKin.fits -/
def f_X0_fits (g : zGd) (m : zMm) (a0 : Option Nat) : Option (Int32 × zMm) :=
(zrc g 0 a0 (f_X0_laysFits g m a0)).bind fun m1 =>
(zgi g m1 0 18 a0).bind fun v2 =>
some ((v2, m1))
theorem hy_X0_fits : zHy yX0_fits 0 := ⟨by decide, by decide, by decide +kernel⟩
set_option maxHeartbeats 4000000 in
theorem ok_X0_fits (l : Launch) (g : zGd) (m : zMm) (a0 : Option Nat) (z0 : Int32) (m0 : zMm) (h : f_X0_fits g m a0 = some (z0, m0)) : zCT l yX0_fits cX0_fits 1 (some .int) 6 131 g m [va_rf a0] (some (.int z0)) g m0 := by
  refine zCT.of (own := "QuiverKin") (mn := "fits") (by decide +kernel) rfl rfl (zla_r zla_0) (zls_r zls_0) (by decide) (fun X hxl hxg hxf hxt hxr hxn => ?_)
  have Kret : ∀ (y0 : Int32) (y1 : zMm), (y0, y1) = (z0, m0) → zRe X g y1 (some (.int y0)) := by
    intro y0 y1 e; cases e; exact ⟨hxf, hxr, hxn⟩
  subst hxl
  show zG X cX0_fits 1 "QuiverKin" "fits" 6 131 0 [(0, va_rf a0)] [] g m
  unfold f_X0_fits at h
  refine g_aload_n dX0_fits_0 0 rfl ?_
  refine g_cVMn [] (fun m0 e0 => ok_X0_laysFits (xl X) g m a0 m0 e0) zc0 (by decide) (lw_V q1265 q1267 qs46 q123 q1268) rfl hy_X0_laysFits rfl ⟨by decide, by decide⟩ rfl zc_0 (by decide) dX0_fits_1 h (fun m1 h => ?_)
  refine g_aload_n dX0_fits_4 0 rfl ?_
  refine gf_i zfd_0_18 q257  (fun _ h9 => h9) dX0_fits_5 h (fun v2 h => ?_)
  refine g_iret dX0_fits_8 hxt ?_
  have e := Option.some.inj h
  exact Kret _ _ e
/-! QuiverKin.fit -/
def f_X0_fit (g : zGd) (m : zMm) (a0 : Option Nat) (a1 : Int32) : Option (Int32 × zMm) :=
(zrc g 0 a0 (f_X0_laysFits g m a0)).bind fun m1 =>
(zgi g m1 0 18 a0).bind fun v2 =>
(f_X0_in a1 (0 : Int32) (v2 - (1 : Int32))).bind fun v3 =>
if v3 = 0 then (some (((-1 : Int32), m1)))
else ((zgr g m1 0 17 a0).bind fun r4 =>
(zald 101 g m1 r4 a1).bind fun v5 =>
some ((v5, m1)))
theorem hy_X0_fit : zHy yX0_fit 1 := ⟨by decide, by decide, by decide +kernel⟩
set_option maxHeartbeats 4000000 in
theorem ok_X0_fit (l : Launch) (g : zGd) (m : zMm) (a0 : Option Nat) (a1 : Int32) (z0 : Int32) (m0 : zMm) (h : f_X0_fit g m a0 a1 = some (z0, m0)) : zCT l yX0_fit cX0_fit 2 (some .int) 6 131 g m [va_rf a0, .int a1] (some (.int z0)) g m0 := by
  refine zCT.of (own := "QuiverKin") (mn := "fit") (by decide +kernel) rfl rfl (zla_r (zla_i zla_0)) (zls_r (zls_i zls_0)) (by decide) (fun X hxl hxg hxf hxt hxr hxn => ?_)
  have Kret : ∀ (y0 : Int32) (y1 : zMm), (y0, y1) = (z0, m0) → zRe X g y1 (some (.int y0)) := by
    intro y0 y1 e; cases e; exact ⟨hxf, hxr, hxn⟩
  subst hxl
  show zG X cX0_fit 2 "QuiverKin" "fit" 6 131 0 [(0, va_rf a0), (1, .int a1)] [] g m
  unfold f_X0_fit at h
  refine g_aload_n dX0_fit_0 0 rfl ?_
  refine g_cVMn [] (fun m0 e0 => ok_X0_laysFits (xl X) g m a0 m0 e0) zc0 (by decide) (lw_V q1265 q1267 qs46 q123 q1268) rfl hy_X0_laysFits rfl ⟨by decide, by decide⟩ rfl zc_0 (by decide) dX0_fit_1 h (fun m1 h => ?_)
  refine g_iload_n dX0_fit_4 1 rfl ?_
  refine g_iconst (v := (0 : Int32)) dX0_fit_5 (by decide) ?_
  refine g_aload_n dX0_fit_6 0 rfl ?_
  refine gf_i zfd_0_18 q257  (fun _ h9 => h9) dX0_fit_7 h (fun v2 h => ?_)
  refine g_iconst (v := (1 : Int32)) dX0_fit_10 (by decide) ?_
  refine g_isub dX0_fit_11 ?_
  refine g_cSRv (rv := fun x : Int32 => Value.int x) [.int a1, .int (0 : Int32), .int (v2 - (1 : Int32))] (fun x0 e0 => ok_X0_in (xl X) g m1 a1 (0 : Int32) (v2 - (1 : Int32)) x0 e0) (lw_S q312 q313 q123 q314) hy_X0_in rfl ⟨by decide, by decide⟩ rfl zc_0 (by decide) dX0_fit_12 h (fun v3 h => ?_)
  refine g_if_eq 27 dX0_fit_15 (by decide) (fun c => ?_) (fun c => ?_)
  · have h := zite_p h c
    refine g_iconst (v := (-1 : Int32)) dX0_fit_27 (by decide) ?_
    refine g_iret dX0_fit_28 hxt ?_
    have e := Option.some.inj h
    exact Kret _ _ e
  · have h := zite_n h c
    refine g_aload_n dX0_fit_18 0 rfl ?_
    refine gf_r zfd_0_17 q256  (fun _ h9 => h9) dX0_fit_19 h (fun r4 h => ?_)
    refine g_iload_n dX0_fit_22 1 rfl ?_
    refine g_iald dX0_fit_23 h (fun v5 h => ?_)
    refine g_goto 28 dX0_fit_24 (by decide) ?_
    refine g_iret dX0_fit_28 hxt ?_
    have e := Option.some.inj h
    exact Kret _ _ e
/-! QuiverKin.mostAlike -/
def b_X0_mostAlike_15 (g : zGd) (a0 : Option Nat) (a1 : Int32) : Int32 × Int32 × Int32 × zMm → Option ((Int32 × Int32 × zMm) ⊕ (Int32 × Int32 × Int32 × zMm)) := fun (v8, v9, v10, m11) =>
(zgi g m11 0 18 a0).bind fun v12 =>
if v12 ≤ v10 then (some (.inl ((v8, v9, m11))))
else ((zgr g m11 0 17 a0).bind fun r13 =>
(zald 101 g m11 r13 v10).bind fun v14 =>
(f_X0_answerTo a1 v14).bind fun v15 =>
(zgr g m11 0 19 a0).bind fun r16 =>
(zald 101 g m11 r16 v15).bind fun v17 =>
(zast 101 g m11 r16 v15 (v17 + (1 : Int32))).bind fun m18 =>
(zgr g m18 0 19 a0).bind fun r19 =>
(zald 101 g m18 r19 v15).bind fun v20 =>
(f_J7_max v8 v20).bind fun v21 =>
(zgr g m18 0 17 a0).bind fun r22 =>
(zald 101 g m18 r22 v10).bind fun v23 =>
if v23 = a1 then (zlt (v10 + (1 : Int32)) fun v25 =>
some (.inr (v21, (1 : Int32), v25, m18)))
else (zlt (v10 + (1 : Int32)) fun v24 =>
some (.inr (v21, v9, v24, m18))))
def f_X0_mostAlike (g : zGd) (m : zMm) (a0 : Option Nat) (a1 : Int32) : Option (Int32 × zMm) :=
(zgr g m 0 19 a0).bind fun r1 =>
(f_J12_fill g m r1 (0 : Int32)).bind fun m2 =>
(zLoop (b_X0_mostAlike_15 g a0 a1) zFuel ((0 : Int32), (0 : Int32), (0 : Int32), m2)).bind fun (v4, v5, m6) =>
some (((((2 : Int32) * v4) - v5), m6))
theorem hy_X0_mostAlike : zHy yX0_mostAlike 1 := ⟨by decide, by decide, by decide +kernel⟩
set_option maxHeartbeats 4000000 in
theorem ok_X0_mostAlike (l : Launch) (g : zGd) (m : zMm) (a0 : Option Nat) (a1 : Int32) (z0 : Int32) (m0 : zMm) (h : f_X0_mostAlike g m a0 a1 = some (z0, m0)) : zCT l yX0_mostAlike cX0_mostAlike 6 (some .int) 4 88 g m [va_rf a0, .int a1] (some (.int z0)) g m0 := by
  refine zCT.of (own := "QuiverKin") (mn := "mostAlike") (by decide +kernel) rfl rfl (zla_r (zla_i zla_0)) (zls_r (zls_i zls_0)) (by decide) (fun X hxl hxg hxf hxt hxr hxn => ?_)
  have Kret : ∀ (y0 : Int32) (y1 : zMm), (y0, y1) = (z0, m0) → zRe X g y1 (some (.int y0)) := by
    intro y0 y1 e; cases e; exact ⟨hxf, hxr, hxn⟩
  subst hxl
  show zG X cX0_mostAlike 6 "QuiverKin" "mostAlike" 4 88 0 [(0, va_rf a0), (1, .int a1)] [] g m
  unfold f_X0_mostAlike at h
  refine g_aload_n dX0_mostAlike_0 0 rfl ?_
  refine gf_r zfd_0_19 q258  (fun _ h9 => h9) dX0_mostAlike_1 h (fun r1 h => ?_)
  refine g_iconst (v := (0 : Int32)) dX0_mostAlike_4 (by decide) ?_
  refine g_cSMn [va_rf r1, .int (0 : Int32)] (fun m0 e0 => ok_J12_fill (xl X) g m r1 (0 : Int32) m0 e0) (lw_S q1285 q1286 q146 q1287) hy_J12_fill rfl ⟨by decide, by decide⟩ rfl zc_0 (by decide) dX0_mostAlike_5 h (fun m2 h => ?_)
  refine g_iconst (v := (0 : Int32)) dX0_mostAlike_8 (by decide) ?_
  refine g_istore_n [(2, .int (0 : Int32)), (0, va_rf a0), (1, .int a1)] dX0_mostAlike_9 (by decide) (zf_r (zf_i zf_0)) rfl ?_
  refine g_iconst (v := (0 : Int32)) dX0_mostAlike_10 (by decide) ?_
  refine g_istore_n [(3, .int (0 : Int32)), (2, .int (0 : Int32)), (0, va_rf a0), (1, .int a1)] dX0_mostAlike_11 (by decide) (zf_i (zf_r (zf_i zf_0))) rfl ?_
  refine g_iconst (v := (0 : Int32)) dX0_mostAlike_12 (by decide) ?_
  refine g_istore [(4, .int (0 : Int32)), (3, .int (0 : Int32)), (2, .int (0 : Int32)), (0, va_rf a0), (1, .int a1)] dX0_mostAlike_13 (by decide) (zf_i (zf_i (zf_r (zf_i zf_0)))) rfl ?_
  obtain ⟨o3, h1, h2⟩ := zB_e h
  have K3 : ∀ (v4 : Int32) (v5 : Int32) (m6 : zMm), o3 = (v4, v5, m6) → zG X cX0_mostAlike 6 "QuiverKin" "mostAlike" 4 88 83 [(2, .int v4), (3, .int v5)] [] g m6 := by
    intro v4 v5 m6 e
    rw [e] at h2
    have h := h2
    refine g_iconst (v := (2 : Int32)) dX0_mostAlike_83 (by decide) ?_
    refine g_iload_n dX0_mostAlike_84 0 rfl ?_
    refine g_imul dX0_mostAlike_85 ?_
    refine g_iload_n dX0_mostAlike_86 1 rfl ?_
    refine g_isub dX0_mostAlike_87 ?_
    refine g_iret dX0_mostAlike_88 hxt ?_
    have e := Option.some.inj h
    exact Kret _ _ e
  refine zG.sub [3, 4, 2, 1, 0] rfl ?_
  refine zLoop_ok (Φ := (fun (q : Int32 × Int32 × Int32 × zMm) => match q with | (v8, v9, v10, m11) => zG X cX0_mostAlike 6 "QuiverKin" "mostAlike" 4 88 15 [(0, va_rf a0), (1, .int a1), (2, .int v8), (3, .int v9), (4, .int v10)] [] g m11)) o3 ?_ zFuel _ h1
  rintro ⟨v8, v9, v10, m11⟩ x7 h hl7 hr7
  unfold b_X0_mostAlike_15 at h
  have K7 : ∀ (v8 : Int32) (v9 : Int32) (v10 : Int32) (m11 : zMm), x7 = .inr (v8, v9, v10, m11) → zG X cX0_mostAlike 6 "QuiverKin" "mostAlike" 4 88 15 [(0, va_rf a0), (1, .int a1), (2, .int v8), (3, .int v9), (4, .int v10)] [] g m11 := by
    intro v8 v9 v10 m11 e
    exact hr7 _ e
  show zG X cX0_mostAlike 6 "QuiverKin" "mostAlike" 4 88 15 [(0, va_rf a0), (1, .int a1), (2, .int v8), (3, .int v9), (4, .int v10)] [] g m11
  refine g_iload dX0_mostAlike_15 4 rfl ?_
  refine g_aload_n dX0_mostAlike_17 0 rfl ?_
  refine gf_i zfd_0_18 q257  (fun _ h9 => h9) dX0_mostAlike_18 h (fun v12 h => ?_)
  refine g_icmp_ge 83 dX0_mostAlike_21 (by decide) (fun c => ?_) (fun c => ?_)
  · have h := zite_p h c
    refine zG.sub [2, 3] rfl ?_
    have e := Option.some.inj h
    have e := hl7 _ e.symm
    exact K3 _ _ _ e.symm
  · have h := zite_n h c
    refine g_iload_n dX0_mostAlike_24 1 rfl ?_
    refine g_aload_n dX0_mostAlike_25 0 rfl ?_
    refine gf_r zfd_0_17 q256  (fun _ h9 => h9) dX0_mostAlike_26 h (fun r13 h => ?_)
    refine g_iload dX0_mostAlike_29 4 rfl ?_
    refine g_iald dX0_mostAlike_31 h (fun v14 h => ?_)
    refine g_cSRv (rv := fun x : Int32 => Value.int x) [.int a1, .int v14] (fun x0 e0 => ok_X0_answerTo (xl X) g m11 a1 v14 x0 e0) (lw_S q1252 q1253 q123 q1254) hy_X0_answerTo rfl ⟨by decide, by decide⟩ rfl zc_0 (by decide) dX0_mostAlike_32 h (fun v15 h => ?_)
    refine g_istore [(5, .int v15), (0, va_rf a0), (1, .int a1), (2, .int v8), (3, .int v9), (4, .int v10)] dX0_mostAlike_35 (by decide) (zf_r (zf_i (zf_i (zf_i (zf_i zf_0))))) rfl ?_
    refine g_aload_n dX0_mostAlike_37 1 rfl ?_
    refine gf_r zfd_0_19 q258  (fun _ h9 => h9) dX0_mostAlike_38 h (fun r16 h => ?_)
    refine g_iload dX0_mostAlike_41 0 rfl ?_
    refine g_dup2 dX0_mostAlike_43 rfl (zcat_r _) ?_
    refine g_iald dX0_mostAlike_44 h (fun v17 h => ?_)
    refine g_iconst (v := (1 : Int32)) dX0_mostAlike_45 (by decide) ?_
    refine g_iadd dX0_mostAlike_46 ?_
    refine g_iast dX0_mostAlike_47 h (fun m18 h => ?_)
    refine g_iload_n dX0_mostAlike_48 3 rfl ?_
    refine g_aload_n dX0_mostAlike_49 1 rfl ?_
    refine gf_r zfd_0_19 q258  (fun _ h9 => h9) dX0_mostAlike_50 h (fun r19 h => ?_)
    refine g_iload dX0_mostAlike_53 0 rfl ?_
    refine g_iald dX0_mostAlike_55 h (fun v20 h => ?_)
    refine g_cSRv (rv := fun x : Int32 => Value.int x) [.int v8, .int v20] (fun x0 e0 => ok_J7_max (xl X) g m18 v8 v20 x0 e0) (lw_S q1186 q655 q136 q656) hy_J7_max rfl ⟨by decide, by decide⟩ rfl zc_0 (by decide) dX0_mostAlike_56 h (fun v21 h => ?_)
    refine g_istore_n [(2, .int v21), (5, .int v15), (0, va_rf a0), (1, .int a1), (3, .int v9), (4, .int v10)] dX0_mostAlike_59 (by decide) (zf_i (zf_r (zf_i (zf_i (zf_i (zf_i zf_0)))))) rfl ?_
    refine g_aload_n dX0_mostAlike_60 2 rfl ?_
    refine gf_r zfd_0_17 q256  (fun _ h9 => h9) dX0_mostAlike_61 h (fun r22 h => ?_)
    refine g_iload dX0_mostAlike_64 5 rfl ?_
    refine g_iald dX0_mostAlike_66 h (fun v23 h => ?_)
    refine g_iload_n dX0_mostAlike_67 3 rfl ?_
    refine g_icmp_ne 75 dX0_mostAlike_68 (by decide) (fun c => ?_) (fun c => ?_)
    · have h := zite_n h c
      refine g_iload_n dX0_mostAlike_75 4 rfl ?_
      refine g_istore_n [(3, .int v9), (2, .int v21), (5, .int v15), (0, va_rf a0), (1, .int a1), (4, .int v10)] dX0_mostAlike_76 (by decide) (zf_i (zf_i (zf_r (zf_i (zf_i (zf_i zf_0)))))) rfl ?_
      refine g_iinc (v := (1 : Int32)) [(3, .int v9), (2, .int v21), (5, .int v15), (0, va_rf a0), (1, .int a1)] dX0_mostAlike_77 5 rfl (by decide) (by decide) (zf_i (zf_i (zf_i (zf_r (zf_i (zf_i zf_0)))))) rfl h (fun v24 h => ?_)
      refine g_goto 15 dX0_mostAlike_80 (by decide) ?_
      refine zG.sub [4, 5, 2, 1, 0] rfl ?_
      have e := Option.some.inj h
      exact K7 _ _ _ _ e.symm
    · have h := zite_p h c
      refine g_iconst (v := (1 : Int32)) dX0_mostAlike_71 (by decide) ?_
      refine g_goto 76 dX0_mostAlike_72 (by decide) ?_
      refine g_istore_n [(3, .int (1 : Int32)), (2, .int v21), (5, .int v15), (0, va_rf a0), (1, .int a1), (4, .int v10)] dX0_mostAlike_76 (by decide) (zf_i (zf_i (zf_r (zf_i (zf_i (zf_i zf_0)))))) rfl ?_
      refine g_iinc (v := (1 : Int32)) [(3, .int (1 : Int32)), (2, .int v21), (5, .int v15), (0, va_rf a0), (1, .int a1)] dX0_mostAlike_77 5 rfl (by decide) (by decide) (zf_i (zf_i (zf_i (zf_r (zf_i (zf_i zf_0)))))) rfl h (fun v25 h => ?_)
      refine g_goto 15 dX0_mostAlike_80 (by decide) ?_
      refine zG.sub [4, 5, 2, 1, 0] rfl ?_
      have e := Option.some.inj h
      exact K7 _ _ _ _ e.symm
/-! QuiverKin.ask -/
def b_X0_ask_24 (g : zGd) (a0 : Option Nat) : Int32 × Int32 × Int32 × zMm → Option ((Int32 × zMm) ⊕ (Int32 × Int32 × Int32 × zMm)) := fun (v9, v10, v11, m12) =>
if (125 : Int32) ≤ v11 then (some (.inl ((v9, m12))))
else ((zrc g 0 a0 (f_X0_mostAlike g m12 a0 v11)).bind fun (v13, m14) =>
((if v10 ≤ v13 then (some (v9))
else (some (v11)) : Option (Int32))).bind fun v16 =>
(f_J7_min v10 v13).bind fun v17 =>
zlt (v11 + (1 : Int32)) fun v18 =>
some (.inr (v16, v17, v18, m14)))
def f_X0_ask (g : zGd) (m : zMm) (a0 : Option Nat) : Option (Int32 × zMm) :=
(zrc g 0 a0 (f_X0_laysFits g m a0)).bind fun m1 =>
(zgi g m1 0 18 a0).bind fun v2 =>
if (2 : Int32) ≤ v2 then ((zrc g 0 a0 (f_X0_mostAlike g m1 a0 (0 : Int32))).bind fun (v3, m4) =>
(zLoop (b_X0_ask_24 g a0) zFuel ((0 : Int32), v3, (1 : Int32), m4)).bind fun (v6, m7) =>
some ((v6, m7)))
else (some (((-1 : Int32), m1)))
theorem hy_X0_ask : zHy yX0_ask 0 := ⟨by decide, by decide, by decide +kernel⟩
set_option maxHeartbeats 4000000 in
theorem ok_X0_ask (l : Launch) (g : zGd) (m : zMm) (a0 : Option Nat) (z0 : Int32) (m0 : zMm) (h : f_X0_ask g m a0 = some (z0, m0)) : zCT l yX0_ask cX0_ask 5 (some .int) 6 131 g m [va_rf a0] (some (.int z0)) g m0 := by
  refine zCT.of (own := "QuiverKin") (mn := "ask") (by decide +kernel) rfl rfl (zla_r zla_0) (zls_r zls_0) (by decide) (fun X hxl hxg hxf hxt hxr hxn => ?_)
  have Kret : ∀ (y0 : Int32) (y1 : zMm), (y0, y1) = (z0, m0) → zRe X g y1 (some (.int y0)) := by
    intro y0 y1 e; cases e; exact ⟨hxf, hxr, hxn⟩
  subst hxl
  show zG X cX0_ask 5 "QuiverKin" "ask" 6 131 0 [(0, va_rf a0)] [] g m
  unfold f_X0_ask at h
  refine g_aload_n dX0_ask_0 0 rfl ?_
  refine g_cVMn [] (fun m0 e0 => ok_X0_laysFits (xl X) g m a0 m0 e0) zc0 (by decide) (lw_V q1265 q1267 qs46 q123 q1268) rfl hy_X0_laysFits rfl ⟨by decide, by decide⟩ rfl zc_0 (by decide) dX0_ask_1 h (fun m1 h => ?_)
  refine g_aload_n dX0_ask_4 0 rfl ?_
  refine gf_i zfd_0_18 q257  (fun _ h9 => h9) dX0_ask_5 h (fun v2 h => ?_)
  refine g_iconst (v := (2 : Int32)) dX0_ask_8 (by decide) ?_
  refine g_icmp_ge 14 dX0_ask_9 (by decide) (fun c => ?_) (fun c => ?_)
  · have h := zite_p h c
    refine g_iconst (v := (0 : Int32)) dX0_ask_14 (by decide) ?_
    refine g_istore_n [(1, .int (0 : Int32)), (0, va_rf a0)] dX0_ask_15 (by decide) (zf_r zf_0) rfl ?_
    refine g_aload_n dX0_ask_16 1 rfl ?_
    refine g_iconst (v := (0 : Int32)) dX0_ask_17 (by decide) ?_
    refine g_cVMv (rv := fun x : Int32 => Value.int x) [.int (0 : Int32)] (fun x0 m0 e0 => ok_X0_mostAlike (xl X) g m1 a0 (0 : Int32) x0 m0 e0) zc0 (by decide) (lw_V q1281 q1283 qs48 q123 q1284) rfl hy_X0_mostAlike rfl ⟨by decide, by decide⟩ rfl zc_0 (by decide) dX0_ask_18 h (fun v3 m4 h => ?_)
    refine g_istore_n [(2, .int v3), (1, .int (0 : Int32)), (0, va_rf a0)] dX0_ask_21 (by decide) (zf_i (zf_r zf_0)) rfl ?_
    refine g_iconst (v := (1 : Int32)) dX0_ask_22 (by decide) ?_
    refine g_istore_n [(3, .int (1 : Int32)), (2, .int v3), (1, .int (0 : Int32)), (0, va_rf a0)] dX0_ask_23 (by decide) (zf_i (zf_i (zf_r zf_0))) rfl ?_
    obtain ⟨o5, h1, h2⟩ := zB_e h
    have K5 : ∀ (v6 : Int32) (m7 : zMm), o5 = (v6, m7) → zG X cX0_ask 5 "QuiverKin" "ask" 6 131 62 [(1, .int v6)] [] g m7 := by
      intro v6 m7 e
      rw [e] at h2
      have h := h2
      refine g_iload_n dX0_ask_62 0 rfl ?_
      refine g_iret dX0_ask_63 hxt ?_
      have e := Option.some.inj h
      exact Kret _ _ e
    refine zG.sub [3, 2, 1, 0] rfl ?_
    refine zLoop_ok (Φ := (fun (q : Int32 × Int32 × Int32 × zMm) => match q with | (v9, v10, v11, m12) => zG X cX0_ask 5 "QuiverKin" "ask" 6 131 24 [(0, va_rf a0), (1, .int v9), (2, .int v10), (3, .int v11)] [] g m12)) o5 ?_ zFuel _ h1
    rintro ⟨v9, v10, v11, m12⟩ x8 h hl8 hr8
    unfold b_X0_ask_24 at h
    have K8 : ∀ (v9 : Int32) (v10 : Int32) (v11 : Int32) (m12 : zMm), x8 = .inr (v9, v10, v11, m12) → zG X cX0_ask 5 "QuiverKin" "ask" 6 131 24 [(0, va_rf a0), (1, .int v9), (2, .int v10), (3, .int v11)] [] g m12 := by
      intro v9 v10 v11 m12 e
      exact hr8 _ e
    show zG X cX0_ask 5 "QuiverKin" "ask" 6 131 24 [(0, va_rf a0), (1, .int v9), (2, .int v10), (3, .int v11)] [] g m12
    refine g_iload_n dX0_ask_24 3 rfl ?_
    refine g_bipush (v := (125 : Int32)) dX0_ask_25 (by decide) ?_
    refine g_icmp_ge 62 dX0_ask_27 (by decide) (fun c => ?_) (fun c => ?_)
    · have h := zite_p h c
      refine zG.sub [1] rfl ?_
      have e := Option.some.inj h
      have e := hl8 _ e.symm
      exact K5 _ _ e.symm
    · have h := zite_n h c
      refine g_aload_n dX0_ask_30 0 rfl ?_
      refine g_iload_n dX0_ask_31 3 rfl ?_
      refine g_cVMv (rv := fun x : Int32 => Value.int x) [.int v11] (fun x0 m0 e0 => ok_X0_mostAlike (xl X) g m12 a0 v11 x0 m0 e0) zc0 (by decide) (lw_V q1281 q1283 qs48 q123 q1284) rfl hy_X0_mostAlike rfl ⟨by decide, by decide⟩ rfl zc_0 (by decide) dX0_ask_32 h (fun v13 m14 h => ?_)
      refine g_istore [(4, .int v13), (0, va_rf a0), (1, .int v9), (2, .int v10), (3, .int v11)] dX0_ask_35 (by decide) (zf_r (zf_i (zf_i (zf_i zf_0)))) rfl ?_
      refine g_iload dX0_ask_37 0 rfl ?_
      refine g_iload_n dX0_ask_39 3 rfl ?_
      obtain ⟨o15, h1, h2⟩ := zB_e h
      have K15 : ∀ (v16 : Int32), o15 = v16 → zG X cX0_ask 5 "QuiverKin" "ask" 6 131 48 [(0, va_rf a0), (2, .int v10), (3, .int v11), (4, .int v13)] [.int v16] g m14 := by
        intro v16 e
        rw [e] at h2
        have h := h2
        refine g_istore_n [(1, .int v16), (0, va_rf a0), (2, .int v10), (3, .int v11), (4, .int v13)] dX0_ask_48 (by decide) (zf_r (zf_i (zf_i (zf_i zf_0)))) rfl ?_
        refine g_iload_n dX0_ask_49 2 rfl ?_
        refine g_iload dX0_ask_50 4 rfl ?_
        refine g_cSRv (rv := fun x : Int32 => Value.int x) [.int v10, .int v13] (fun x0 e0 => ok_J7_min (xl X) g m14 v10 v13 x0 e0) (lw_S q907 q485 q136 q486) hy_J7_min rfl ⟨by decide, by decide⟩ rfl zc_0 (by decide) dX0_ask_52 h (fun v17 h => ?_)
        refine g_istore_n [(2, .int v17), (1, .int v16), (0, va_rf a0), (3, .int v11), (4, .int v13)] dX0_ask_55 (by decide) (zf_i (zf_r (zf_i (zf_i (zf_i zf_0))))) rfl ?_
        refine g_iinc (v := (1 : Int32)) [(2, .int v17), (1, .int v16), (0, va_rf a0), (4, .int v13)] dX0_ask_56 3 rfl (by decide) (by decide) (zf_i (zf_i (zf_r (zf_i (zf_i zf_0))))) rfl h (fun v18 h => ?_)
        refine g_goto 24 dX0_ask_59 (by decide) ?_
        refine zG.sub [3, 2, 1, 0] rfl ?_
        have e := Option.some.inj h
        exact K8 _ _ _ _ e.symm
      have h := h1
      refine g_icmp_ge 47 dX0_ask_40 (by decide) (fun c => ?_) (fun c => ?_)
      · have h := zite_p h c
        refine g_iload_n dX0_ask_47 2 rfl ?_
        refine zG.sub [1, 3, 4, 0] rfl ?_
        have e := Option.some.inj h
        exact K15 _ e.symm
      · have h := zite_n h c
        refine g_iload_n dX0_ask_43 4 rfl ?_
        refine g_goto 48 dX0_ask_44 (by decide) ?_
        refine zG.sub [1, 3, 4, 0] rfl ?_
        have e := Option.some.inj h
        exact K15 _ e.symm
  · have h := zite_n h c
    refine g_iconst (v := (-1 : Int32)) dX0_ask_12 (by decide) ?_
    refine g_iret dX0_ask_13 hxt ?_
    have e := Option.some.inj h
    exact Kret _ _ e
/-! QuiverKin.gain -/
def f_X0_gain (g : zGd) (m : zMm) (a0 : Option Nat) (a1 : Int32) (a2 : Int32) (a3 : Int32) (a4 : Int32) : Option (Int32 × zMm) :=
(f_X0_in a1 (0 : Int32) (1 : Int32)).bind fun v1 =>
if v1 = 0 then (some (((0 : Int32), m)))
else ((f_X0_in a2 (0 : Int32) (1 : Int32)).bind fun v2 =>
if v2 = 0 then (some (((0 : Int32), m)))
else ((f_X0_in a3 (-99 : Int32) (99 : Int32)).bind fun v3 =>
if v3 = 0 then (some (((0 : Int32), m)))
else ((f_X0_in a4 (-99 : Int32) (99 : Int32)).bind fun v4 =>
if v4 = 0 then (some (((0 : Int32), m)))
else ((zgr g m 0 0 a0).bind fun r5 =>
(zgr g m 1 4 r5).bind fun r6 =>
(zast 101 g m r6 (((2 : Int32) * a1) + a2) a3).bind fun m7 =>
(zgr g m7 0 0 a0).bind fun r8 =>
(zgr g m7 1 5 r8).bind fun r9 =>
(zast 101 g m7 r9 (((2 : Int32) * a1) + a2) a4).bind fun m10 =>
some (((1 : Int32), m10))))))
theorem hy_X0_gain : zHy yX0_gain 4 := ⟨by decide, by decide, by decide +kernel⟩
set_option maxHeartbeats 4000000 in
theorem ok_X0_gain (l : Launch) (g : zGd) (m : zMm) (a0 : Option Nat) (a1 : Int32) (a2 : Int32) (a3 : Int32) (a4 : Int32) (z0 : Int32) (m0 : zMm) (h : f_X0_gain g m a0 a1 a2 a3 a4 = some (z0, m0)) : zCT l yX0_gain cX0_gain 5 (some .boolean) 2 42 g m [va_rf a0, .int a1, .int a2, .int a3, .int a4] (some (.int z0)) g m0 := by
  refine zCT.of (own := "QuiverKin") (mn := "gain") (by decide +kernel) rfl rfl (zla_r (zla_i (zla_i (zla_i (zla_i zla_0))))) (zls_r (zls_i (zls_i (zls_i (zls_i zls_0))))) (by decide) (fun X hxl hxg hxf hxt hxr hxn => ?_)
  have Kret : ∀ (y0 : Int32) (y1 : zMm), (y0, y1) = (z0, m0) → zRe X g y1 (some (.int y0)) := by
    intro y0 y1 e; cases e; exact ⟨hxf, hxr, hxn⟩
  subst hxl
  show zG X cX0_gain 5 "QuiverKin" "gain" 2 42 0 [(0, va_rf a0), (1, .int a1), (2, .int a2), (3, .int a3), (4, .int a4)] [] g m
  unfold f_X0_gain at h
  refine g_iload_n dX0_gain_0 1 rfl ?_
  refine g_iconst (v := (0 : Int32)) dX0_gain_1 (by decide) ?_
  refine g_iconst (v := (1 : Int32)) dX0_gain_2 (by decide) ?_
  refine g_cSRv (rv := fun x : Int32 => Value.int x) [.int a1, .int (0 : Int32), .int (1 : Int32)] (fun x0 e0 => ok_X0_in (xl X) g m a1 (0 : Int32) (1 : Int32) x0 e0) (lw_S q312 q313 q123 q314) hy_X0_in rfl ⟨by decide, by decide⟩ rfl zc_0 (by decide) dX0_gain_3 h (fun v1 h => ?_)
  refine g_if_eq 41 dX0_gain_6 (by decide) (fun c => ?_) (fun c => ?_)
  · have h := zite_p h c
    refine g_iconst (v := (0 : Int32)) dX0_gain_41 (by decide) ?_
    refine g_zret dX0_gain_42 hxt rfl ?_
    have e := Option.some.inj h
    exact Kret _ _ e
  · have h := zite_n h c
    refine g_iload_n dX0_gain_9 2 rfl ?_
    refine g_iconst (v := (0 : Int32)) dX0_gain_10 (by decide) ?_
    refine g_iconst (v := (1 : Int32)) dX0_gain_11 (by decide) ?_
    refine g_cSRv (rv := fun x : Int32 => Value.int x) [.int a2, .int (0 : Int32), .int (1 : Int32)] (fun x0 e0 => ok_X0_in (xl X) g m a2 (0 : Int32) (1 : Int32) x0 e0) (lw_S q312 q313 q123 q314) hy_X0_in rfl ⟨by decide, by decide⟩ rfl zc_0 (by decide) dX0_gain_12 h (fun v2 h => ?_)
    refine g_if_eq 41 dX0_gain_15 (by decide) (fun c => ?_) (fun c => ?_)
    · have h := zite_p h c
      refine g_iconst (v := (0 : Int32)) dX0_gain_41 (by decide) ?_
      refine g_zret dX0_gain_42 hxt rfl ?_
      have e := Option.some.inj h
      exact Kret _ _ e
    · have h := zite_n h c
      refine g_iload_n dX0_gain_18 3 rfl ?_
      refine g_bipush (v := (-99 : Int32)) dX0_gain_19 (by decide) ?_
      refine g_bipush (v := (99 : Int32)) dX0_gain_21 (by decide) ?_
      refine g_cSRv (rv := fun x : Int32 => Value.int x) [.int a3, .int (-99 : Int32), .int (99 : Int32)] (fun x0 e0 => ok_X0_in (xl X) g m a3 (-99 : Int32) (99 : Int32) x0 e0) (lw_S q312 q313 q123 q314) hy_X0_in rfl ⟨by decide, by decide⟩ rfl zc_0 (by decide) dX0_gain_23 h (fun v3 h => ?_)
      refine g_if_eq 41 dX0_gain_26 (by decide) (fun c => ?_) (fun c => ?_)
      · have h := zite_p h c
        refine g_iconst (v := (0 : Int32)) dX0_gain_41 (by decide) ?_
        refine g_zret dX0_gain_42 hxt rfl ?_
        have e := Option.some.inj h
        exact Kret _ _ e
      · have h := zite_n h c
        refine g_iload dX0_gain_29 4 rfl ?_
        refine g_bipush (v := (-99 : Int32)) dX0_gain_31 (by decide) ?_
        refine g_bipush (v := (99 : Int32)) dX0_gain_33 (by decide) ?_
        refine g_cSRv (rv := fun x : Int32 => Value.int x) [.int a4, .int (-99 : Int32), .int (99 : Int32)] (fun x0 e0 => ok_X0_in (xl X) g m a4 (-99 : Int32) (99 : Int32) x0 e0) (lw_S q312 q313 q123 q314) hy_X0_in rfl ⟨by decide, by decide⟩ rfl zc_0 (by decide) dX0_gain_35 h (fun v4 h => ?_)
        refine g_if_ne 43 dX0_gain_38 (by decide) (fun c => ?_) (fun c => ?_)
        · have h := zite_n h c
          refine g_aload_n dX0_gain_43 0 rfl ?_
          refine gf_r zfd_0_0 q239  (fun _ h9 => h9) dX0_gain_44 h (fun r5 h => ?_)
          refine gf_rN zfd_1_4 q185  (fun _ h9 => h9) dX0_gain_47 h (fun r6 h => ?_)
          refine g_iconst (v := (2 : Int32)) dX0_gain_50 (by decide) ?_
          refine g_iload_n dX0_gain_51 1 rfl ?_
          refine g_imul dX0_gain_52 ?_
          refine g_iload_n dX0_gain_53 2 rfl ?_
          refine g_iadd dX0_gain_54 ?_
          refine g_iload_n dX0_gain_55 3 rfl ?_
          refine g_iast dX0_gain_56 h (fun m7 h => ?_)
          refine g_aload_n dX0_gain_57 0 rfl ?_
          refine gf_r zfd_0_0 q239  (fun _ h9 => h9) dX0_gain_58 h (fun r8 h => ?_)
          refine gf_rN zfd_1_5 q187  (fun _ h9 => h9) dX0_gain_61 h (fun r9 h => ?_)
          refine g_iconst (v := (2 : Int32)) dX0_gain_64 (by decide) ?_
          refine g_iload_n dX0_gain_65 1 rfl ?_
          refine g_imul dX0_gain_66 ?_
          refine g_iload_n dX0_gain_67 2 rfl ?_
          refine g_iadd dX0_gain_68 ?_
          refine g_iload dX0_gain_69 4 rfl ?_
          refine g_iast dX0_gain_71 h (fun m10 h => ?_)
          refine g_iconst (v := (1 : Int32)) dX0_gain_72 (by decide) ?_
          refine g_zret dX0_gain_73 hxt rfl ?_
          have e := Option.some.inj h
          exact Kret _ _ e
        · have h := zite_p h c
          refine g_iconst (v := (0 : Int32)) dX0_gain_41 (by decide) ?_
          refine g_zret dX0_gain_42 hxt rfl ?_
          have e := Option.some.inj h
          exact Kret _ _ e
/-! QuiverKin.rests -/
def b_X0_rests_4 (g : zGd) (m : zMm) (a0 : Option Nat) : Int32 × Int32 → Option ((Int32) ⊕ (Int32 × Int32)) := fun (v4, v5) =>
if (4 : Int32) ≤ v5 then (some (.inl v4))
else ((zgr g m 0 0 a0).bind fun r6 =>
(zgr g m 1 4 r6).bind fun r7 =>
(zald 101 g m r7 (v5 ^^^ (2 : Int32))).bind fun v8 =>
(zgr g m 0 0 a0).bind fun r9 =>
(zgr g m 1 4 r9).bind fun r10 =>
(zald 101 g m r10 v5).bind fun v11 =>
if v11 < v8 then (zlt (v4 ||| (0 : Int32)) fun v12 =>
zlt (v5 + (1 : Int32)) fun v13 =>
some (.inr (v12, v13)))
else ((zgr g m 0 0 a0).bind fun r14 =>
(zgr g m 1 5 r14).bind fun r15 =>
(zald 101 g m r15 (v5 ^^^ (1 : Int32))).bind fun v16 =>
(zgr g m 0 0 a0).bind fun r17 =>
(zgr g m 1 5 r17).bind fun r18 =>
(zald 101 g m r18 v5).bind fun v19 =>
if v19 < v16 then (zlt (v4 ||| (0 : Int32)) fun v20 =>
zlt (v5 + (1 : Int32)) fun v21 =>
some (.inr (v20, v21)))
else (zlt (v4 ||| (zshl (1 : Int32) v5)) fun v22 =>
zlt (v5 + (1 : Int32)) fun v23 =>
some (.inr (v22, v23)))))
def f_X0_rests (g : zGd) (m : zMm) (a0 : Option Nat) : Option (Int32) :=
(zLoop (b_X0_rests_4 g m a0) zFuel ((0 : Int32), (0 : Int32))).bind fun v2 =>
some (v2)
theorem hy_X0_rests : zHy yX0_rests 0 := ⟨by decide, by decide, by decide +kernel⟩
set_option maxHeartbeats 4000000 in
theorem ok_X0_rests (l : Launch) (g : zGd) (m : zMm) (a0 : Option Nat) (z0 : Int32) (h : f_X0_rests g m a0 = some z0) : zCT l yX0_rests cX0_rests 3 (some .int) 1 20 g m [va_rf a0] (some (.int z0)) g m := by
  refine zCT.of (own := "QuiverKin") (mn := "rests") (by decide +kernel) rfl rfl (zla_r zla_0) (zls_r zls_0) (by decide) (fun X hxl hxg hxf hxt hxr hxn => ?_)
  have Kret : ∀ (y0 : Int32), y0 = z0 → zRe X g m (some (.int y0)) := by
    intro y0 e; cases e; exact ⟨hxf, hxr, hxn⟩
  subst hxl
  show zG X cX0_rests 3 "QuiverKin" "rests" 1 20 0 [(0, va_rf a0)] [] g m
  unfold f_X0_rests at h
  refine g_iconst (v := (0 : Int32)) dX0_rests_0 (by decide) ?_
  refine g_istore_n [(1, .int (0 : Int32)), (0, va_rf a0)] dX0_rests_1 (by decide) (zf_r zf_0) rfl ?_
  refine g_iconst (v := (0 : Int32)) dX0_rests_2 (by decide) ?_
  refine g_istore_n [(2, .int (0 : Int32)), (1, .int (0 : Int32)), (0, va_rf a0)] dX0_rests_3 (by decide) (zf_i (zf_r zf_0)) rfl ?_
  obtain ⟨o1, h1, h2⟩ := zB_e h
  have K1 : ∀ (v2 : Int32), o1 = v2 → zG X cX0_rests 3 "QuiverKin" "rests" 1 20 71 [(1, .int v2)] [] g m := by
    intro v2 e
    rw [e] at h2
    have h := h2
    refine g_iload_n dX0_rests_71 0 rfl ?_
    refine g_iret dX0_rests_72 hxt ?_
    have e := Option.some.inj h
    exact Kret _ e
  refine zG.sub [2, 1, 0] rfl ?_
  refine zLoop_ok (Φ := (fun (q : Int32 × Int32) => match q with | (v4, v5) => zG X cX0_rests 3 "QuiverKin" "rests" 1 20 4 [(0, va_rf a0), (1, .int v4), (2, .int v5)] [] g m)) o1 ?_ zFuel _ h1
  rintro ⟨v4, v5⟩ x3 h hl3 hr3
  unfold b_X0_rests_4 at h
  have K3 : ∀ (v4 : Int32) (v5 : Int32), x3 = .inr (v4, v5) → zG X cX0_rests 3 "QuiverKin" "rests" 1 20 4 [(0, va_rf a0), (1, .int v4), (2, .int v5)] [] g m := by
    intro v4 v5 e
    exact hr3 _ e
  show zG X cX0_rests 3 "QuiverKin" "rests" 1 20 4 [(0, va_rf a0), (1, .int v4), (2, .int v5)] [] g m
  refine g_iload_n dX0_rests_4 2 rfl ?_
  refine g_iconst (v := (4 : Int32)) dX0_rests_5 (by decide) ?_
  refine g_icmp_ge 71 dX0_rests_6 (by decide) (fun c => ?_) (fun c => ?_)
  · have h := zite_p h c
    refine zG.sub [1] rfl ?_
    have e := Option.some.inj h
    have e := hl3 _ e.symm
    exact K1 _ e.symm
  · have h := zite_n h c
    refine g_iload_n dX0_rests_9 1 rfl ?_
    refine g_aload_n dX0_rests_10 0 rfl ?_
    refine gf_r zfd_0_0 q239  (fun _ h9 => h9) dX0_rests_11 h (fun r6 h => ?_)
    refine gf_rN zfd_1_4 q185  (fun _ h9 => h9) dX0_rests_14 h (fun r7 h => ?_)
    refine g_iload_n dX0_rests_17 2 rfl ?_
    refine g_iconst (v := (2 : Int32)) dX0_rests_18 (by decide) ?_
    refine g_ixor dX0_rests_19 ?_
    refine g_iald dX0_rests_20 h (fun v8 h => ?_)
    refine g_aload_n dX0_rests_21 0 rfl ?_
    refine gf_r zfd_0_0 q239  (fun _ h9 => h9) dX0_rests_22 h (fun r9 h => ?_)
    refine gf_rN zfd_1_4 q185  (fun _ h9 => h9) dX0_rests_25 h (fun r10 h => ?_)
    refine g_iload_n dX0_rests_28 2 rfl ?_
    refine g_iald dX0_rests_29 h (fun v11 h => ?_)
    refine g_icmp_gt 62 dX0_rests_30 (by decide) (fun c => ?_) (fun c => ?_)
    · have h := zite_p h c
      refine g_iconst (v := (0 : Int32)) dX0_rests_62 (by decide) ?_
      refine g_ior dX0_rests_63 ?_
      refine g_leti h (fun v12 h => ?_)
      refine g_istore_n [(1, .int v12), (0, va_rf a0), (2, .int v5)] dX0_rests_64 (by decide) (zf_r (zf_i (zf_i zf_0))) rfl ?_
      refine g_iinc (v := (1 : Int32)) [(1, .int v12), (0, va_rf a0)] dX0_rests_65 2 rfl (by decide) (by decide) (zf_i (zf_r (zf_i zf_0))) rfl h (fun v13 h => ?_)
      refine g_goto 4 dX0_rests_68 (by decide) ?_
      refine zG.sub [2, 1, 0] rfl ?_
      have e := Option.some.inj h
      exact K3 _ _ e.symm
    · have h := zite_n h c
      refine g_aload_n dX0_rests_33 0 rfl ?_
      refine gf_r zfd_0_0 q239  (fun _ h9 => h9) dX0_rests_34 h (fun r14 h => ?_)
      refine gf_rN zfd_1_5 q187  (fun _ h9 => h9) dX0_rests_37 h (fun r15 h => ?_)
      refine g_iload_n dX0_rests_40 2 rfl ?_
      refine g_iconst (v := (1 : Int32)) dX0_rests_41 (by decide) ?_
      refine g_ixor dX0_rests_42 ?_
      refine g_iald dX0_rests_43 h (fun v16 h => ?_)
      refine g_aload_n dX0_rests_44 0 rfl ?_
      refine gf_r zfd_0_0 q239  (fun _ h9 => h9) dX0_rests_45 h (fun r17 h => ?_)
      refine gf_rN zfd_1_5 q187  (fun _ h9 => h9) dX0_rests_48 h (fun r18 h => ?_)
      refine g_iload_n dX0_rests_51 2 rfl ?_
      refine g_iald dX0_rests_52 h (fun v19 h => ?_)
      refine g_icmp_gt 62 dX0_rests_53 (by decide) (fun c => ?_) (fun c => ?_)
      · have h := zite_p h c
        refine g_iconst (v := (0 : Int32)) dX0_rests_62 (by decide) ?_
        refine g_ior dX0_rests_63 ?_
        refine g_leti h (fun v20 h => ?_)
        refine g_istore_n [(1, .int v20), (0, va_rf a0), (2, .int v5)] dX0_rests_64 (by decide) (zf_r (zf_i (zf_i zf_0))) rfl ?_
        refine g_iinc (v := (1 : Int32)) [(1, .int v20), (0, va_rf a0)] dX0_rests_65 2 rfl (by decide) (by decide) (zf_i (zf_r (zf_i zf_0))) rfl h (fun v21 h => ?_)
        refine g_goto 4 dX0_rests_68 (by decide) ?_
        refine zG.sub [2, 1, 0] rfl ?_
        have e := Option.some.inj h
        exact K3 _ _ e.symm
      · have h := zite_n h c
        refine g_iconst (v := (1 : Int32)) dX0_rests_56 (by decide) ?_
        refine g_iload_n dX0_rests_57 2 rfl ?_
        refine g_ishl dX0_rests_58 ?_
        refine g_goto 63 dX0_rests_59 (by decide) ?_
        refine g_ior dX0_rests_63 ?_
        refine g_leti h (fun v22 h => ?_)
        refine g_istore_n [(1, .int v22), (0, va_rf a0), (2, .int v5)] dX0_rests_64 (by decide) (zf_r (zf_i (zf_i zf_0))) rfl ?_
        refine g_iinc (v := (1 : Int32)) [(1, .int v22), (0, va_rf a0)] dX0_rests_65 2 rfl (by decide) (by decide) (zf_i (zf_r (zf_i zf_0))) rfl h (fun v23 h => ?_)
        refine g_goto 4 dX0_rests_68 (by decide) ?_
        refine zG.sub [2, 1, 0] rfl ?_
        have e := Option.some.inj h
        exact K3 _ _ e.symm
/-! SCC.common -/
theorem hy_X0_common : zHy yX0_common 2 := ⟨by decide, by decide, by decide +kernel⟩
def q_X0_common (rec : (Int64 → Int64 → Option (Int64))) (a0 : Int64) (a2 : Int64) : Option (Int64) :=
if a2 = (0 : Int64) then (some (a0))
else ((zlmod a0 a2).bind fun w1 =>
(rec a2 w1).bind fun w2 =>
some (w2))
set_option maxHeartbeats 4000000 in
theorem qk_X0_common (l : Launch) (g : zGd) (m : zMm) (fR lR : Nat) (rec : (Int64 → Int64 → Option (Int64))) (hrec1 : ∀ (g : zGd) (m : zMm) (a0 : Int64) (a1 : Int64) (z0 : Int64), rec a0 a1 = some z0 → zCT l yX0_common cX0_common 4 (some .long) fR lR g m [.long a0, .long a1] (some (.long z0)) g m) (a0 : Int64) (a2 : Int64) (z0 : Int64) (h : q_X0_common rec a0 a2 = some z0) : zCT l yX0_common cX0_common 4 (some .long) (1 + fR) (23 + lR) g m [.long a0, .long a2] (some (.long z0)) g m := by
  refine zCT.of (own := "QuiverKin") (mn := "common") (by decide +kernel) rfl rfl (zla_l (zla_l zla_0)) (zls_l (zls_l zls_0)) (by decide) (fun X hxl hxg hxf hxt hxr hxn => ?_)
  have Kret : ∀ (y0 : Int64), y0 = z0 → zRe X g m (some (.long y0)) := by
    intro y0 e; cases e; exact ⟨hxf, hxr, hxn⟩
  subst hxl
  show zG X cX0_common 4 "QuiverKin" "common" (1 + fR) (23 + lR) 0 [(0, .long a0), (2, .long a2)] [] g m
  unfold q_X0_common at h
  refine g_lload_n dX0_common_0 1 rfl ?_
  refine g_lconst (v := (0 : Int64)) dX0_common_1 (by decide) ?_
  refine g_lcmp_ne 10 dX0_common_2 dX0_common_3 (by decide) (fun c => ?_) (fun c => ?_)
  · have h := zite_n h c
    refine g_lload_n dX0_common_10 1 rfl ?_
    refine g_lload_n dX0_common_11 0 rfl ?_
    refine g_lload_n dX0_common_12 1 rfl ?_
    refine g_lrem dX0_common_13 h (fun w1 h => ?_)
    refine g_cSRv (rv := fun x : Int64 => Value.long x) [.long a2, .long w1] (fun x0 e0 => hrec1 g m a2 w1 x0 e0) (lw_S q1306 q1307 q123 q1308) hy_X0_common rfl ⟨by omega, by omega⟩ rfl zc_0 (by decide) dX0_common_14 h (fun w2 h => ?_)
    refine g_lret dX0_common_17 hxt ?_
    have e := Option.some.inj h
    exact Kret _ e
  · have h := zite_p h c
    refine g_lload_n dX0_common_6 0 rfl ?_
    refine g_goto 17 dX0_common_7 (by decide) ?_
    refine g_lret dX0_common_17 hxt ?_
    have e := Option.some.inj h
    exact Kret _ e
def r_common : Nat → (Int64 → Int64 → Option (Int64))
  | 0 => fun _ _ => none
  | d + 1 => q_X0_common (r_common d)
theorem okr_common (l : Launch) : ∀ d : Nat, (∀ (g : zGd) (m : zMm) (a0 : Int64) (a1 : Int64) (z0 : Int64), (r_common d) a0 a1 = some z0 → zCT l yX0_common cX0_common 4 (some .long) (1 * d) (23 * d) g m [.long a0, .long a1] (some (.long z0)) g m)
  | 0 => (fun g m a0 a1 z0 h => by cases h)
  | d + 1 => by
    have ih := okr_common l d
    exact (fun g m a0 a1 z0 h => by rw [Nat.mul_succ, Nat.mul_succ, Nat.add_comm (1 * d), Nat.add_comm (23 * d)]; exact qk_X0_common l g m _ _ (r_common d) ih a0 a1 z0 h)
def f_X0_common (a0 : Int64) (a1 : Int64) : Option (Int64) := (r_common 120) a0 a1
theorem ok_X0_common (l : Launch) (g : zGd) (m : zMm) (a0 : Int64) (a1 : Int64) (z0 : Int64) (h : f_X0_common a0 a1 = some z0) : zCT l yX0_common cX0_common 4 (some .long) 120 2760 g m [.long a0, .long a1] (some (.long z0)) g m := (okr_common l 120) g m a0 a1 z0 h
/-! QuiverKin.part -/
def f_X0_part (a0 : Int64) (a2 : Int64) (a4 : Int32) : Option (Int64) :=
((if a4 = 0 then (some (a0))
else (some (a2)) : Option (Int64))).bind fun w2 =>
(f_X0_common a2 a0).bind fun w3 =>
(zldiv w2 w3).bind fun w4 =>
some (w4)
theorem hy_X0_part : zHy yX0_part 3 := ⟨by decide, by decide, by decide +kernel⟩
set_option maxHeartbeats 4000000 in
theorem ok_X0_part (l : Launch) (g : zGd) (m : zMm) (a0 : Int64) (a2 : Int64) (a4 : Int32) (z0 : Int64) (h : f_X0_part a0 a2 a4 = some z0) : zCT l yX0_part cX0_part 5 (some .long) 121 2783 g m [.long a0, .long a2, .int a4] (some (.long z0)) g m := by
  refine zCT.of (own := "QuiverKin") (mn := "part") (by decide +kernel) rfl rfl (zla_l (zla_l (zla_i zla_0))) (zls_l (zls_l (zls_i zls_0))) (by decide) (fun X hxl hxg hxf hxt hxr hxn => ?_)
  have Kret : ∀ (y0 : Int64), y0 = z0 → zRe X g m (some (.long y0)) := by
    intro y0 e; cases e; exact ⟨hxf, hxr, hxn⟩
  subst hxl
  show zG X cX0_part 5 "QuiverKin" "part" 121 2783 0 [(0, .long a0), (2, .long a2), (4, .int a4)] [] g m
  unfold f_X0_part at h
  refine g_iload dX0_part_0 2 rfl ?_
  obtain ⟨o1, h1, h2⟩ := zB_e h
  have K1 : ∀ (w2 : Int64), o1 = w2 → zG X cX0_part 5 "QuiverKin" "part" 121 2783 10 [(0, .long a0), (2, .long a2)] [.long w2] g m := by
    intro w2 e
    rw [e] at h2
    have h := h2
    refine g_lload_n dX0_part_10 1 rfl ?_
    refine g_lload_n dX0_part_11 0 rfl ?_
    refine g_cSRv (rv := fun x : Int64 => Value.long x) [.long a2, .long a0] (fun x0 e0 => ok_X0_common (xl X) g m a2 a0 x0 e0) (lw_S q1306 q1307 q123 q1308) hy_X0_common rfl ⟨by decide, by decide⟩ rfl (zc_l zc_0) (by decide) dX0_part_12 h (fun w3 h => ?_)
    refine g_ldiv dX0_part_15 h (fun w4 h => ?_)
    refine g_lret dX0_part_16 hxt ?_
    have e := Option.some.inj h
    exact Kret _ e
  have h := h1
  refine g_if_eq 9 dX0_part_2 (by decide) (fun c => ?_) (fun c => ?_)
  · have h := zite_p h c
    refine g_lload_n dX0_part_9 0 rfl ?_
    refine zG.sub [0, 1] rfl ?_
    have e := Option.some.inj h
    exact K1 _ e.symm
  · have h := zite_n h c
    refine g_lload_n dX0_part_5 1 rfl ?_
    refine g_goto 10 dX0_part_6 (by decide) ?_
    refine zG.sub [0, 1] rfl ?_
    have e := Option.some.inj h
    exact K1 _ e.symm
/-! QuiverKin.mixed -/
def f_X0_mixed (g : zGd) (m : zMm) (a0 : Option Nat) (a1 : Int32) (a2 : Int32) : Option (Int32) :=
(zgr g m 0 0 a0).bind fun r1 =>
(zgr g m 1 5 r1).bind fun r2 =>
(zald 101 g m r2 (0 : Int32)).bind fun v3 =>
(zgr g m 0 0 a0).bind fun r4 =>
(zgr g m 1 5 r4).bind fun r5 =>
(zald 101 g m r5 (1 : Int32)).bind fun v6 =>
zlt (v3 - v6) fun v7 =>
(zgr g m 0 0 a0).bind fun r8 =>
(zgr g m 1 5 r8).bind fun r9 =>
(zald 101 g m r9 (3 : Int32)).bind fun v10 =>
(zgr g m 0 0 a0).bind fun r11 =>
(zgr g m 1 5 r11).bind fun r12 =>
(zald 101 g m r12 (2 : Int32)).bind fun v13 =>
zlt (v10 - v13) fun v14 =>
(zgr g m 0 0 a0).bind fun r15 =>
(zgr g m 1 4 r15).bind fun r16 =>
(zald 101 g m r16 (0 : Int32)).bind fun v17 =>
(zgr g m 0 0 a0).bind fun r18 =>
(zgr g m 1 4 r18).bind fun r19 =>
(zald 101 g m r19 (2 : Int32)).bind fun v20 =>
zlt (v17 - v20) fun v21 =>
(zgr g m 0 0 a0).bind fun r22 =>
(zgr g m 1 4 r22).bind fun r23 =>
(zald 101 g m r23 (3 : Int32)).bind fun v24 =>
(zgr g m 0 0 a0).bind fun r25 =>
(zgr g m 1 4 r25).bind fun r26 =>
(zald 101 g m r26 (1 : Int32)).bind fun v27 =>
zlt (v24 - v27) fun v28 =>
if (v7 * v14) ≤ 0 then (some ((-1 : Int32)))
else (if 0 < (v21 * v28) then (((if a1 = 0 then (some (v21))
else (some (v7)) : Option (Int32))).bind fun v30 =>
(f_J7_abs v30).bind fun v31 =>
((if a1 = 0 then (some (v28))
else (some (v14)) : Option (Int32))).bind fun v33 =>
(f_J7_abs v33).bind fun v34 =>
(f_X0_part (v31.toInt64) ((v31 + v34).toInt64) a2).bind fun w35 =>
some ((w35.toInt32)))
else (some ((-1 : Int32))))
theorem hy_X0_mixed : zHy yX0_mixed 2 := ⟨by decide, by decide, by decide +kernel⟩
set_option maxHeartbeats 4000000 in
theorem ok_X0_mixed (l : Launch) (g : zGd) (m : zMm) (a0 : Option Nat) (a1 : Int32) (a2 : Int32) (z0 : Int32) (h : f_X0_mixed g m a0 a1 a2 = some z0) : zCT l yX0_mixed cX0_mixed 8 (some .int) 122 2807 g m [va_rf a0, .int a1, .int a2] (some (.int z0)) g m := by
  refine zCT.of (own := "QuiverKin") (mn := "mixed") (by decide +kernel) rfl rfl (zla_r (zla_i (zla_i zla_0))) (zls_r (zls_i (zls_i zls_0))) (by decide) (fun X hxl hxg hxf hxt hxr hxn => ?_)
  have Kret : ∀ (y0 : Int32), y0 = z0 → zRe X g m (some (.int y0)) := by
    intro y0 e; cases e; exact ⟨hxf, hxr, hxn⟩
  subst hxl
  show zG X cX0_mixed 8 "QuiverKin" "mixed" 122 2807 0 [(0, va_rf a0), (1, .int a1), (2, .int a2)] [] g m
  unfold f_X0_mixed at h
  refine g_aload_n dX0_mixed_0 0 rfl ?_
  refine gf_r zfd_0_0 q239  (fun _ h9 => h9) dX0_mixed_1 h (fun r1 h => ?_)
  refine gf_rN zfd_1_5 q187  (fun _ h9 => h9) dX0_mixed_4 h (fun r2 h => ?_)
  refine g_iconst (v := (0 : Int32)) dX0_mixed_7 (by decide) ?_
  refine g_iald dX0_mixed_8 h (fun v3 h => ?_)
  refine g_aload_n dX0_mixed_9 0 rfl ?_
  refine gf_r zfd_0_0 q239  (fun _ h9 => h9) dX0_mixed_10 h (fun r4 h => ?_)
  refine gf_rN zfd_1_5 q187  (fun _ h9 => h9) dX0_mixed_13 h (fun r5 h => ?_)
  refine g_iconst (v := (1 : Int32)) dX0_mixed_16 (by decide) ?_
  refine g_iald dX0_mixed_17 h (fun v6 h => ?_)
  refine g_isub dX0_mixed_18 ?_
  refine g_leti h (fun v7 h => ?_)
  refine g_istore_n [(3, .int v7), (0, va_rf a0), (1, .int a1), (2, .int a2)] dX0_mixed_19 (by decide) (zf_r (zf_i (zf_i zf_0))) rfl ?_
  refine g_aload_n dX0_mixed_20 1 rfl ?_
  refine gf_r zfd_0_0 q239  (fun _ h9 => h9) dX0_mixed_21 h (fun r8 h => ?_)
  refine gf_rN zfd_1_5 q187  (fun _ h9 => h9) dX0_mixed_24 h (fun r9 h => ?_)
  refine g_iconst (v := (3 : Int32)) dX0_mixed_27 (by decide) ?_
  refine g_iald dX0_mixed_28 h (fun v10 h => ?_)
  refine g_aload_n dX0_mixed_29 1 rfl ?_
  refine gf_r zfd_0_0 q239  (fun _ h9 => h9) dX0_mixed_30 h (fun r11 h => ?_)
  refine gf_rN zfd_1_5 q187  (fun _ h9 => h9) dX0_mixed_33 h (fun r12 h => ?_)
  refine g_iconst (v := (2 : Int32)) dX0_mixed_36 (by decide) ?_
  refine g_iald dX0_mixed_37 h (fun v13 h => ?_)
  refine g_isub dX0_mixed_38 ?_
  refine g_leti h (fun v14 h => ?_)
  refine g_istore [(4, .int v14), (3, .int v7), (0, va_rf a0), (1, .int a1), (2, .int a2)] dX0_mixed_39 (by decide) (zf_i (zf_r (zf_i (zf_i zf_0)))) rfl ?_
  refine g_aload_n dX0_mixed_41 2 rfl ?_
  refine gf_r zfd_0_0 q239  (fun _ h9 => h9) dX0_mixed_42 h (fun r15 h => ?_)
  refine gf_rN zfd_1_4 q185  (fun _ h9 => h9) dX0_mixed_45 h (fun r16 h => ?_)
  refine g_iconst (v := (0 : Int32)) dX0_mixed_48 (by decide) ?_
  refine g_iald dX0_mixed_49 h (fun v17 h => ?_)
  refine g_aload_n dX0_mixed_50 2 rfl ?_
  refine gf_r zfd_0_0 q239  (fun _ h9 => h9) dX0_mixed_51 h (fun r18 h => ?_)
  refine gf_rN zfd_1_4 q185  (fun _ h9 => h9) dX0_mixed_54 h (fun r19 h => ?_)
  refine g_iconst (v := (2 : Int32)) dX0_mixed_57 (by decide) ?_
  refine g_iald dX0_mixed_58 h (fun v20 h => ?_)
  refine g_isub dX0_mixed_59 ?_
  refine g_leti h (fun v21 h => ?_)
  refine g_istore [(5, .int v21), (4, .int v14), (3, .int v7), (0, va_rf a0), (1, .int a1), (2, .int a2)] dX0_mixed_60 (by decide) (zf_i (zf_i (zf_r (zf_i (zf_i zf_0))))) rfl ?_
  refine g_aload_n dX0_mixed_62 3 rfl ?_
  refine gf_r zfd_0_0 q239  (fun _ h9 => h9) dX0_mixed_63 h (fun r22 h => ?_)
  refine gf_rN zfd_1_4 q185  (fun _ h9 => h9) dX0_mixed_66 h (fun r23 h => ?_)
  refine g_iconst (v := (3 : Int32)) dX0_mixed_69 (by decide) ?_
  refine g_iald dX0_mixed_70 h (fun v24 h => ?_)
  refine g_aload_n dX0_mixed_71 3 rfl ?_
  refine gf_r zfd_0_0 q239  (fun _ h9 => h9) dX0_mixed_72 h (fun r25 h => ?_)
  refine gf_rN zfd_1_4 q185  (fun _ h9 => h9) dX0_mixed_75 h (fun r26 h => ?_)
  refine g_iconst (v := (1 : Int32)) dX0_mixed_78 (by decide) ?_
  refine g_iald dX0_mixed_79 h (fun v27 h => ?_)
  refine g_isub dX0_mixed_80 ?_
  refine g_leti h (fun v28 h => ?_)
  refine g_istore [(6, .int v28), (5, .int v21), (4, .int v14), (3, .int v7), (0, va_rf a0), (1, .int a1), (2, .int a2)] dX0_mixed_81 (by decide) (zf_i (zf_i (zf_i (zf_r (zf_i (zf_i zf_0)))))) rfl ?_
  refine g_iload_n dX0_mixed_83 3 rfl ?_
  refine g_iload dX0_mixed_84 2 rfl ?_
  refine g_imul dX0_mixed_86 ?_
  refine g_if_le 98 dX0_mixed_87 (by decide) (fun c => ?_) (fun c => ?_)
  · have h := zite_p h c
    refine g_iconst (v := (-1 : Int32)) dX0_mixed_98 (by decide) ?_
    refine g_iret dX0_mixed_99 hxt ?_
    have e := Option.some.inj h
    exact Kret _ e
  · have h := zite_n h c
    refine g_iload dX0_mixed_90 1 rfl ?_
    refine g_iload dX0_mixed_92 0 rfl ?_
    refine g_imul dX0_mixed_94 ?_
    refine g_if_gt 100 dX0_mixed_95 (by decide) (fun c => ?_) (fun c => ?_)
    · have h := zite_p h c
      refine g_iload_n dX0_mixed_100 5 rfl ?_
      obtain ⟨o29, h1, h2⟩ := zB_e h
      have K29 : ∀ (v30 : Int32), o29 = v30 → zG X cX0_mixed 8 "QuiverKin" "mixed" 122 2807 110 [(1, .int a1), (2, .int a2), (4, .int v14), (6, .int v28)] [.int v30] g m := by
        intro v30 e
        rw [e] at h2
        have h := h2
        refine g_cSRv (rv := fun x : Int32 => Value.int x) [.int v30] (fun x0 e0 => ok_J7_abs (xl X) g m v30 x0 e0) (lw_S q1300 q1301 q136 q1302) hy_J7_abs rfl ⟨by decide, by decide⟩ rfl zc_0 (by decide) dX0_mixed_110 h (fun v31 h => ?_)
        refine g_istore [(7, .int v31), (1, .int a1), (2, .int a2), (4, .int v14), (6, .int v28)] dX0_mixed_113 (by decide) (zf_i (zf_i (zf_i (zf_i zf_0)))) rfl ?_
        refine g_iload dX0_mixed_115 0 rfl ?_
        refine g_i2l dX0_mixed_117 ?_
        refine g_iload dX0_mixed_118 0 rfl ?_
        refine g_iload_n dX0_mixed_120 1 rfl ?_
        obtain ⟨o32, h1, h2⟩ := zB_e h
        have K32 : ∀ (v33 : Int32), o32 = v33 → zG X cX0_mixed 8 "QuiverKin" "mixed" 122 2807 131 [(2, .int a2)] [.int v33, .int v31, .long (v31.toInt64)] g m := by
          intro v33 e
          rw [e] at h2
          have h := h2
          refine g_cSRv (rv := fun x : Int32 => Value.int x) [.int v33] (fun x0 e0 => ok_J7_abs (xl X) g m v33 x0 e0) (lw_S q1300 q1301 q136 q1302) hy_J7_abs rfl ⟨by decide, by decide⟩ rfl (zc_i (zc_l zc_0)) (by decide) dX0_mixed_131 h (fun v34 h => ?_)
          refine g_iadd dX0_mixed_134 ?_
          refine g_i2l dX0_mixed_135 ?_
          refine g_iload_n dX0_mixed_136 0 rfl ?_
          refine g_cSRv (rv := fun x : Int64 => Value.long x) [.long (v31.toInt64), .long ((v31 + v34).toInt64), .int a2] (fun x0 e0 => ok_X0_part (xl X) g m (v31.toInt64) ((v31 + v34).toInt64) a2 x0 e0) (lw_S q1303 q1304 q123 q1305) hy_X0_part rfl ⟨by decide, by decide⟩ rfl zc_0 (by decide) dX0_mixed_137 h (fun w35 h => ?_)
          refine g_l2i dX0_mixed_140 ?_
          refine g_iret dX0_mixed_141 hxt ?_
          have e := Option.some.inj h
          exact Kret _ e
        have h := h1
        refine g_if_eq 129 dX0_mixed_121 (by decide) (fun c => ?_) (fun c => ?_)
        · have h := zite_p h c
          refine g_iload dX0_mixed_129 4 rfl ?_
          refine zG.sub [2] rfl ?_
          have e := Option.some.inj h
          exact K32 _ e.symm
        · have h := zite_n h c
          refine g_iload dX0_mixed_124 3 rfl ?_
          refine g_goto 131 dX0_mixed_126 (by decide) ?_
          refine zG.sub [2] rfl ?_
          have e := Option.some.inj h
          exact K32 _ e.symm
      have h := h1
      refine g_if_eq 108 dX0_mixed_101 (by decide) (fun c => ?_) (fun c => ?_)
      · have h := zite_p h c
        refine g_iload dX0_mixed_108 1 rfl ?_
        refine zG.sub [5, 6, 2, 0] rfl ?_
        have e := Option.some.inj h
        exact K29 _ e.symm
      · have h := zite_n h c
        refine g_iload_n dX0_mixed_104 3 rfl ?_
        refine g_goto 110 dX0_mixed_105 (by decide) ?_
        refine zG.sub [5, 6, 2, 0] rfl ?_
        have e := Option.some.inj h
        exact K29 _ e.symm
    · have h := zite_n h c
      refine g_iconst (v := (-1 : Int32)) dX0_mixed_98 (by decide) ?_
      refine g_iret dX0_mixed_99 hxt ?_
      have e := Option.some.inj h
      exact Kret _ e
/-! QuiverKin.saying -/
def f_X0_saying (g : zGd) (m : zMm) (a0 : Option Nat) (a1 : Int32) (a2 : Int32) : Option (Int32 × zMm) :=
if a1 = (-1 : Int32) then ((zgr g m 0 0 a0).bind fun r11 =>
(zrc g 1 r11 (f_X1_clears g m r11 (5 : Int32))).bind fun (v12, m13) =>
some ((v12, m13)))
else ((f_X0_in a1 (0 : Int32) (99 : Int32)).bind fun v1 =>
if v1 = 0 then (some (((-2 : Int32), m)))
else ((f_X0_in a2 (1 : Int32) (99 : Int32)).bind fun v2 =>
if v2 = 0 then (some (((-2 : Int32), m)))
else ((zgr g m 0 0 a0).bind fun r3 =>
(zgr g m 1 0 r3).bind fun r4 =>
(zald 101 g m r4 (5 : Int32)).bind fun v5 =>
if (8 : Int32) ≤ v5 then (some (((-2 : Int32), m)))
else ((zgr g m 0 0 a0).bind fun r6 =>
(zgr g m 0 0 a0).bind fun r7 =>
(zgr g m 1 8 r7).bind fun r8 =>
(zrc g 1 r6 (f_X1_adds g m r6 r8 (5 : Int32) a1 a2)).bind fun (v9, m10) =>
some ((v9, m10))))))
theorem hy_X0_saying : zHy yX0_saying 2 := ⟨by decide, by decide, by decide +kernel⟩
set_option maxHeartbeats 4000000 in
theorem ok_X0_saying (l : Launch) (g : zGd) (m : zMm) (a0 : Option Nat) (a1 : Int32) (a2 : Int32) (z0 : Int32) (m0 : zMm) (h : f_X0_saying g m a0 a1 a2 = some (z0, m0)) : zCT l yX0_saying cX0_saying 3 (some .int) 2 44 g m [va_rf a0, .int a1, .int a2] (some (.int z0)) g m0 := by
  refine zCT.of (own := "QuiverKin") (mn := "saying") (by decide +kernel) rfl rfl (zla_r (zla_i (zla_i zla_0))) (zls_r (zls_i (zls_i zls_0))) (by decide) (fun X hxl hxg hxf hxt hxr hxn => ?_)
  have Kret : ∀ (y0 : Int32) (y1 : zMm), (y0, y1) = (z0, m0) → zRe X g y1 (some (.int y0)) := by
    intro y0 y1 e; cases e; exact ⟨hxf, hxr, hxn⟩
  subst hxl
  show zG X cX0_saying 3 "QuiverKin" "saying" 2 44 0 [(0, va_rf a0), (1, .int a1), (2, .int a2)] [] g m
  unfold f_X0_saying at h
  refine g_iload_n dX0_saying_0 1 rfl ?_
  refine g_iconst (v := (-1 : Int32)) dX0_saying_1 (by decide) ?_
  refine g_icmp_ne 14 dX0_saying_2 (by decide) (fun c => ?_) (fun c => ?_)
  · have h := zite_n h c
    refine g_iload_n dX0_saying_14 1 rfl ?_
    refine g_iconst (v := (0 : Int32)) dX0_saying_15 (by decide) ?_
    refine g_bipush (v := (99 : Int32)) dX0_saying_16 (by decide) ?_
    refine g_cSRv (rv := fun x : Int32 => Value.int x) [.int a1, .int (0 : Int32), .int (99 : Int32)] (fun x0 e0 => ok_X0_in (xl X) g m a1 (0 : Int32) (99 : Int32) x0 e0) (lw_S q312 q313 q123 q314) hy_X0_in rfl ⟨by decide, by decide⟩ rfl zc_0 (by decide) dX0_saying_18 h (fun v1 h => ?_)
    refine g_if_eq 68 dX0_saying_21 (by decide) (fun c => ?_) (fun c => ?_)
    · have h := zite_p h c
      refine g_bipush (v := (-2 : Int32)) dX0_saying_68 (by decide) ?_
      refine g_iret dX0_saying_70 hxt ?_
      have e := Option.some.inj h
      exact Kret _ _ e
    · have h := zite_n h c
      refine g_iload_n dX0_saying_24 2 rfl ?_
      refine g_iconst (v := (1 : Int32)) dX0_saying_25 (by decide) ?_
      refine g_bipush (v := (99 : Int32)) dX0_saying_26 (by decide) ?_
      refine g_cSRv (rv := fun x : Int32 => Value.int x) [.int a2, .int (1 : Int32), .int (99 : Int32)] (fun x0 e0 => ok_X0_in (xl X) g m a2 (1 : Int32) (99 : Int32) x0 e0) (lw_S q312 q313 q123 q314) hy_X0_in rfl ⟨by decide, by decide⟩ rfl zc_0 (by decide) dX0_saying_28 h (fun v2 h => ?_)
      refine g_if_eq 68 dX0_saying_31 (by decide) (fun c => ?_) (fun c => ?_)
      · have h := zite_p h c
        refine g_bipush (v := (-2 : Int32)) dX0_saying_68 (by decide) ?_
        refine g_iret dX0_saying_70 hxt ?_
        have e := Option.some.inj h
        exact Kret _ _ e
      · have h := zite_n h c
        refine g_aload_n dX0_saying_34 0 rfl ?_
        refine gf_r zfd_0_0 q239  (fun _ h9 => h9) dX0_saying_35 h (fun r3 h => ?_)
        refine gf_rN zfd_1_0 q177  (fun _ h9 => h9) dX0_saying_38 h (fun r4 h => ?_)
        refine g_iconst (v := (5 : Int32)) dX0_saying_41 (by decide) ?_
        refine g_iald dX0_saying_42 h (fun v5 h => ?_)
        refine g_bipush (v := (8 : Int32)) dX0_saying_43 (by decide) ?_
        refine g_icmp_ge 68 dX0_saying_45 (by decide) (fun c => ?_) (fun c => ?_)
        · have h := zite_p h c
          refine g_bipush (v := (-2 : Int32)) dX0_saying_68 (by decide) ?_
          refine g_iret dX0_saying_70 hxt ?_
          have e := Option.some.inj h
          exact Kret _ _ e
        · have h := zite_n h c
          refine g_aload_n dX0_saying_48 0 rfl ?_
          refine gf_r zfd_0_0 q239  (fun _ h9 => h9) dX0_saying_49 h (fun r6 h => ?_)
          refine g_aload_n dX0_saying_52 0 rfl ?_
          refine gf_r zfd_0_0 q239  (fun _ h9 => h9) dX0_saying_53 h (fun r7 h => ?_)
          refine gf_rN zfd_1_8 q193  (fun _ h9 => h9) dX0_saying_56 h (fun r8 h => ?_)
          refine g_iconst (v := (5 : Int32)) dX0_saying_59 (by decide) ?_
          refine g_iload_n dX0_saying_60 1 rfl ?_
          refine g_iload_n dX0_saying_61 2 rfl ?_
          refine g_cVMv (rv := fun x : Int32 => Value.int x) [va_rf r8, .int (5 : Int32), .int a1, .int a2] (fun x0 m0 e0 => ok_X1_adds (xl X) g m r6 r8 (5 : Int32) a1 a2 x0 m0 e0) zc1 (by decide) (lw_V q1244 q1245 q1246 q124 q1247) rfl hy_X1_adds rfl ⟨by decide, by decide⟩ rfl zc_0 (by decide) dX0_saying_62 h (fun v9 m10 h => ?_)
          refine g_goto 70 dX0_saying_65 (by decide) ?_
          refine g_iret dX0_saying_70 hxt ?_
          have e := Option.some.inj h
          exact Kret _ _ e
  · have h := zite_p h c
    refine g_aload_n dX0_saying_5 0 rfl ?_
    refine gf_r zfd_0_0 q239  (fun _ h9 => h9) dX0_saying_6 h (fun r11 h => ?_)
    refine g_iconst (v := (5 : Int32)) dX0_saying_9 (by decide) ?_
    refine g_cVMv (rv := fun x : Int32 => Value.int x) [.int (5 : Int32)] (fun x0 m0 e0 => ok_X1_clears (xl X) g m r11 (5 : Int32) x0 m0 e0) zc1 (by decide) (lw_V q1237 q1238 q1239 q124 q1240) rfl hy_X1_clears rfl ⟨by decide, by decide⟩ rfl zc_0 (by decide) dX0_saying_10 h (fun v12 m13 h => ?_)
    refine g_iret dX0_saying_13 hxt ?_
    have e := Option.some.inj h
    exact Kret _ _ e
/-! QuiverKin.sumOf -/
def b_X0_sumOf_5 (g : zGd) (m : zMm) (a0 : Option Nat) (a1 : Int32) (a2 : Int32) : Int32 × Int32 → Option ((Int32) ⊕ (Int32 × Int32)) := fun (v4, v5) =>
(zgr g m 0 0 a0).bind fun r6 =>
(zgr g m 1 0 r6).bind fun r7 =>
(zald 101 g m r7 (5 : Int32)).bind fun v8 =>
if v8 ≤ v5 then (some (.inl v4))
else ((f_X0_has a1 v5).bind fun v9 =>
if v9 = 0 then (zlt (v4 + (0 : Int32)) fun v10 =>
zlt (v5 + (1 : Int32)) fun v11 =>
some (.inr (v10, v11)))
else ((zgr g m 0 0 a0).bind fun r12 =>
(zgr g m 1 8 r12).bind fun r13 =>
(zaldr 106 g m r13 v5).bind fun r14 =>
(zald 101 g m r14 a2).bind fun v15 =>
zlt (v4 + v15) fun v16 =>
zlt (v5 + (1 : Int32)) fun v17 =>
some (.inr (v16, v17))))
def f_X0_sumOf (g : zGd) (m : zMm) (a0 : Option Nat) (a1 : Int32) (a2 : Int32) : Option (Int32) :=
(zLoop (b_X0_sumOf_5 g m a0 a1 a2) zFuel ((0 : Int32), (0 : Int32))).bind fun v2 =>
some (v2)
theorem hy_X0_sumOf : zHy yX0_sumOf 2 := ⟨by decide, by decide, by decide +kernel⟩
set_option maxHeartbeats 4000000 in
theorem ok_X0_sumOf (l : Launch) (g : zGd) (m : zMm) (a0 : Option Nat) (a1 : Int32) (a2 : Int32) (z0 : Int32) (h : f_X0_sumOf g m a0 a1 a2 = some z0) : zCT l yX0_sumOf cX0_sumOf 5 (some .int) 2 41 g m [va_rf a0, .int a1, .int a2] (some (.int z0)) g m := by
  refine zCT.of (own := "QuiverKin") (mn := "sumOf") (by decide +kernel) rfl rfl (zla_r (zla_i (zla_i zla_0))) (zls_r (zls_i (zls_i zls_0))) (by decide) (fun X hxl hxg hxf hxt hxr hxn => ?_)
  have Kret : ∀ (y0 : Int32), y0 = z0 → zRe X g m (some (.int y0)) := by
    intro y0 e; cases e; exact ⟨hxf, hxr, hxn⟩
  subst hxl
  show zG X cX0_sumOf 5 "QuiverKin" "sumOf" 2 41 0 [(0, va_rf a0), (1, .int a1), (2, .int a2)] [] g m
  unfold f_X0_sumOf at h
  refine g_iconst (v := (0 : Int32)) dX0_sumOf_0 (by decide) ?_
  refine g_istore_n [(3, .int (0 : Int32)), (0, va_rf a0), (1, .int a1), (2, .int a2)] dX0_sumOf_1 (by decide) (zf_r (zf_i (zf_i zf_0))) rfl ?_
  refine g_iconst (v := (0 : Int32)) dX0_sumOf_2 (by decide) ?_
  refine g_istore [(4, .int (0 : Int32)), (3, .int (0 : Int32)), (0, va_rf a0), (1, .int a1), (2, .int a2)] dX0_sumOf_3 (by decide) (zf_i (zf_r (zf_i (zf_i zf_0)))) rfl ?_
  obtain ⟨o1, h1, h2⟩ := zB_e h
  have K1 : ∀ (v2 : Int32), o1 = v2 → zG X cX0_sumOf 5 "QuiverKin" "sumOf" 2 41 53 [(3, .int v2)] [] g m := by
    intro v2 e
    rw [e] at h2
    have h := h2
    refine g_iload_n dX0_sumOf_53 0 rfl ?_
    refine g_iret dX0_sumOf_54 hxt ?_
    have e := Option.some.inj h
    exact Kret _ e
  refine zG.sub [2, 3, 4, 1, 0] rfl ?_
  refine zLoop_ok (Φ := (fun (q : Int32 × Int32) => match q with | (v4, v5) => zG X cX0_sumOf 5 "QuiverKin" "sumOf" 2 41 5 [(0, va_rf a0), (1, .int a1), (2, .int a2), (3, .int v4), (4, .int v5)] [] g m)) o1 ?_ zFuel _ h1
  rintro ⟨v4, v5⟩ x3 h hl3 hr3
  unfold b_X0_sumOf_5 at h
  have K3 : ∀ (v4 : Int32) (v5 : Int32), x3 = .inr (v4, v5) → zG X cX0_sumOf 5 "QuiverKin" "sumOf" 2 41 5 [(0, va_rf a0), (1, .int a1), (2, .int a2), (3, .int v4), (4, .int v5)] [] g m := by
    intro v4 v5 e
    exact hr3 _ e
  show zG X cX0_sumOf 5 "QuiverKin" "sumOf" 2 41 5 [(0, va_rf a0), (1, .int a1), (2, .int a2), (3, .int v4), (4, .int v5)] [] g m
  refine g_iload dX0_sumOf_5 4 rfl ?_
  refine g_aload_n dX0_sumOf_7 0 rfl ?_
  refine gf_r zfd_0_0 q239  (fun _ h9 => h9) dX0_sumOf_8 h (fun r6 h => ?_)
  refine gf_rN zfd_1_0 q177  (fun _ h9 => h9) dX0_sumOf_11 h (fun r7 h => ?_)
  refine g_iconst (v := (5 : Int32)) dX0_sumOf_14 (by decide) ?_
  refine g_iald dX0_sumOf_15 h (fun v8 h => ?_)
  refine g_icmp_ge 53 dX0_sumOf_16 (by decide) (fun c => ?_) (fun c => ?_)
  · have h := zite_p h c
    refine zG.sub [3] rfl ?_
    have e := Option.some.inj h
    have e := hl3 _ e.symm
    exact K1 _ e.symm
  · have h := zite_n h c
    refine g_iload_n dX0_sumOf_19 3 rfl ?_
    refine g_iload_n dX0_sumOf_20 1 rfl ?_
    refine g_iload dX0_sumOf_21 4 rfl ?_
    refine g_cSRv (rv := fun x : Int32 => Value.int x) [.int a1, .int v5] (fun x0 e0 => ok_X0_has (xl X) g m a1 v5 x0 e0) (lw_S q897 q898 q123 q899) hy_X0_has rfl ⟨by decide, by decide⟩ rfl (zc_i zc_0) (by decide) dX0_sumOf_23 h (fun v9 h => ?_)
    refine g_if_eq 44 dX0_sumOf_26 (by decide) (fun c => ?_) (fun c => ?_)
    · have h := zite_p h c
      refine g_iconst (v := (0 : Int32)) dX0_sumOf_44 (by decide) ?_
      refine g_iadd dX0_sumOf_45 ?_
      refine g_leti h (fun v10 h => ?_)
      refine g_istore_n [(3, .int v10), (0, va_rf a0), (1, .int a1), (2, .int a2), (4, .int v5)] dX0_sumOf_46 (by decide) (zf_r (zf_i (zf_i (zf_i (zf_i zf_0))))) rfl ?_
      refine g_iinc (v := (1 : Int32)) [(3, .int v10), (0, va_rf a0), (1, .int a1), (2, .int a2)] dX0_sumOf_47 4 rfl (by decide) (by decide) (zf_i (zf_r (zf_i (zf_i (zf_i zf_0))))) rfl h (fun v11 h => ?_)
      refine g_goto 5 dX0_sumOf_50 (by decide) ?_
      refine zG.sub [2, 3, 4, 1, 0] rfl ?_
      have e := Option.some.inj h
      exact K3 _ _ e.symm
    · have h := zite_n h c
      refine g_aload_n dX0_sumOf_29 0 rfl ?_
      refine gf_r zfd_0_0 q239  (fun _ h9 => h9) dX0_sumOf_30 h (fun r12 h => ?_)
      refine gf_rN zfd_1_8 q193  (fun _ h9 => h9) dX0_sumOf_33 h (fun r13 h => ?_)
      refine g_iload dX0_sumOf_36 4 rfl ?_
      refine g_aald 5 rfl rfl (by decide)  dX0_sumOf_38 h (fun r14 h => ?_)
      refine g_iload_n dX0_sumOf_39 2 rfl ?_
      refine g_iald dX0_sumOf_40 h (fun v15 h => ?_)
      refine g_goto 45 dX0_sumOf_41 (by decide) ?_
      refine g_iadd dX0_sumOf_45 ?_
      refine g_leti h (fun v16 h => ?_)
      refine g_istore_n [(3, .int v16), (0, va_rf a0), (1, .int a1), (2, .int a2), (4, .int v5)] dX0_sumOf_46 (by decide) (zf_r (zf_i (zf_i (zf_i (zf_i zf_0))))) rfl ?_
      refine g_iinc (v := (1 : Int32)) [(3, .int v16), (0, va_rf a0), (1, .int a1), (2, .int a2)] dX0_sumOf_47 4 rfl (by decide) (by decide) (zf_i (zf_r (zf_i (zf_i (zf_i zf_0))))) rfl h (fun v17 h => ?_)
      refine g_goto 5 dX0_sumOf_50 (by decide) ?_
      refine zG.sub [2, 3, 4, 1, 0] rfl ?_
      have e := Option.some.inj h
      exact K3 _ _ e.symm
/-! QuiverKin.isLess -/
def f_X0_isLess (g : zGd) (m : zMm) (a0 : Option Nat) (a1 : Int32) (a2 : Int32) : Option (Int32) :=
(zrc g 0 a0 (f_X0_sumOf g m a0 a1 (0 : Int32))).bind fun v1 =>
(zrc g 0 a0 (f_X0_sumOf g m a0 a2 (0 : Int32))).bind fun v2 =>
if v1 < v2 then (some ((1 : Int32)))
else ((zrc g 0 a0 (f_X0_sumOf g m a0 a1 (0 : Int32))).bind fun v3 =>
(zrc g 0 a0 (f_X0_sumOf g m a0 a2 (0 : Int32))).bind fun v4 =>
if v3 = v4 then ((f_J15_bitCount a1).bind fun v5 =>
(f_J15_bitCount a2).bind fun v6 =>
if v6 ≤ v5 then (some ((0 : Int32)))
else (some ((1 : Int32))))
else (some ((0 : Int32))))
theorem hy_X0_isLess : zHy yX0_isLess 2 := ⟨by decide, by decide, by decide +kernel⟩
set_option maxHeartbeats 4000000 in
theorem ok_X0_isLess (l : Launch) (g : zGd) (m : zMm) (a0 : Option Nat) (a1 : Int32) (a2 : Int32) (z0 : Int32) (h : f_X0_isLess g m a0 a1 a2 = some z0) : zCT l yX0_isLess cX0_isLess 3 (some .boolean) 3 65 g m [va_rf a0, .int a1, .int a2] (some (.int z0)) g m := by
  refine zCT.of (own := "QuiverKin") (mn := "isLess") (by decide +kernel) rfl rfl (zla_r (zla_i (zla_i zla_0))) (zls_r (zls_i (zls_i zls_0))) (by decide) (fun X hxl hxg hxf hxt hxr hxn => ?_)
  have Kret : ∀ (y0 : Int32), y0 = z0 → zRe X g m (some (.int y0)) := by
    intro y0 e; cases e; exact ⟨hxf, hxr, hxn⟩
  subst hxl
  show zG X cX0_isLess 3 "QuiverKin" "isLess" 3 65 0 [(0, va_rf a0), (1, .int a1), (2, .int a2)] [] g m
  unfold f_X0_isLess at h
  refine g_aload_n dX0_isLess_0 0 rfl ?_
  refine g_iload_n dX0_isLess_1 1 rfl ?_
  refine g_iconst (v := (0 : Int32)) dX0_isLess_2 (by decide) ?_
  refine g_cVRv (rv := fun x : Int32 => Value.int x) [.int a1, .int (0 : Int32)] (fun x0 e0 => ok_X0_sumOf (xl X) g m a0 a1 (0 : Int32) x0 e0) zc0 (by decide) (lw_V q1317 q1319 qs49 q123 q1320) rfl hy_X0_sumOf rfl ⟨by decide, by decide⟩ rfl zc_0 (by decide) dX0_isLess_3 h (fun v1 h => ?_)
  refine g_aload_n dX0_isLess_6 0 rfl ?_
  refine g_iload_n dX0_isLess_7 2 rfl ?_
  refine g_iconst (v := (0 : Int32)) dX0_isLess_8 (by decide) ?_
  refine g_cVRv (rv := fun x : Int32 => Value.int x) [.int a2, .int (0 : Int32)] (fun x0 e0 => ok_X0_sumOf (xl X) g m a0 a2 (0 : Int32) x0 e0) zc0 (by decide) (lw_V q1317 q1319 qs49 q123 q1320) rfl hy_X0_sumOf rfl ⟨by decide, by decide⟩ rfl (zc_i zc_0) (by decide) dX0_isLess_9 h (fun v2 h => ?_)
  refine g_icmp_lt 41 dX0_isLess_12 (by decide) (fun c => ?_) (fun c => ?_)
  · have h := zite_p h c
    refine g_iconst (v := (1 : Int32)) dX0_isLess_41 (by decide) ?_
    refine g_goto 46 dX0_isLess_42 (by decide) ?_
    refine g_zret dX0_isLess_46 hxt rfl ?_
    have e := Option.some.inj h
    exact Kret _ e
  · have h := zite_n h c
    refine g_aload_n dX0_isLess_15 0 rfl ?_
    refine g_iload_n dX0_isLess_16 1 rfl ?_
    refine g_iconst (v := (0 : Int32)) dX0_isLess_17 (by decide) ?_
    refine g_cVRv (rv := fun x : Int32 => Value.int x) [.int a1, .int (0 : Int32)] (fun x0 e0 => ok_X0_sumOf (xl X) g m a0 a1 (0 : Int32) x0 e0) zc0 (by decide) (lw_V q1317 q1319 qs49 q123 q1320) rfl hy_X0_sumOf rfl ⟨by decide, by decide⟩ rfl zc_0 (by decide) dX0_isLess_18 h (fun v3 h => ?_)
    refine g_aload_n dX0_isLess_21 0 rfl ?_
    refine g_iload_n dX0_isLess_22 2 rfl ?_
    refine g_iconst (v := (0 : Int32)) dX0_isLess_23 (by decide) ?_
    refine g_cVRv (rv := fun x : Int32 => Value.int x) [.int a2, .int (0 : Int32)] (fun x0 e0 => ok_X0_sumOf (xl X) g m a0 a2 (0 : Int32) x0 e0) zc0 (by decide) (lw_V q1317 q1319 qs49 q123 q1320) rfl hy_X0_sumOf rfl ⟨by decide, by decide⟩ rfl (zc_i zc_0) (by decide) dX0_isLess_24 h (fun v4 h => ?_)
    refine g_icmp_ne 45 dX0_isLess_27 (by decide) (fun c => ?_) (fun c => ?_)
    · have h := zite_n h c
      refine g_iconst (v := (0 : Int32)) dX0_isLess_45 (by decide) ?_
      refine g_zret dX0_isLess_46 hxt rfl ?_
      have e := Option.some.inj h
      exact Kret _ e
    · have h := zite_p h c
      refine g_iload_n dX0_isLess_30 1 rfl ?_
      refine g_cSRv (rv := fun x : Int32 => Value.int x) [.int a1] (fun x0 e0 => ok_J15_bitCount (xl X) g m a1 x0 e0) (lw_S q1325 q1326 q155 q1327) hy_J15_bitCount rfl ⟨by decide, by decide⟩ rfl zc_0 (by decide) dX0_isLess_31 h (fun v5 h => ?_)
      refine g_iload_n dX0_isLess_34 2 rfl ?_
      refine g_cSRv (rv := fun x : Int32 => Value.int x) [.int a2] (fun x0 e0 => ok_J15_bitCount (xl X) g m a2 x0 e0) (lw_S q1325 q1326 q155 q1327) hy_J15_bitCount rfl ⟨by decide, by decide⟩ rfl (zc_i zc_0) (by decide) dX0_isLess_35 h (fun v6 h => ?_)
      refine g_icmp_ge 45 dX0_isLess_38 (by decide) (fun c => ?_) (fun c => ?_)
      · have h := zite_p h c
        refine g_iconst (v := (0 : Int32)) dX0_isLess_45 (by decide) ?_
        refine g_zret dX0_isLess_46 hxt rfl ?_
        have e := Option.some.inj h
        exact Kret _ e
      · have h := zite_n h c
        refine g_iconst (v := (1 : Int32)) dX0_isLess_41 (by decide) ?_
        refine g_goto 46 dX0_isLess_42 (by decide) ?_
        refine g_zret dX0_isLess_46 hxt rfl ?_
        have e := Option.some.inj h
        exact Kret _ e
/-! QuiverKin.least -/
def b_X0_least_18 (g : zGd) (m : zMm) (a0 : Option Nat) (a1 : Int32) : Int32 × Int32 → Option ((Int32) ⊕ (Int32 × Int32)) := fun (v5, v6) =>
(zgr g m 0 0 a0).bind fun r7 =>
(zgr g m 1 0 r7).bind fun r8 =>
(zald 101 g m r8 (5 : Int32)).bind fun v9 =>
if (zshl (1 : Int32) v9) ≤ v6 then (some (.inl v5))
else ((zrc g 0 a0 (f_X0_sumOf g m a0 v6 (1 : Int32))).bind fun v10 =>
if v10 < a1 then (zlt (v6 + (1 : Int32)) fun v11 =>
some (.inr (v5, v11)))
else (if v5 = (-1 : Int32) then (zlt (v6 + (1 : Int32)) fun v12 =>
some (.inr (v6, v12)))
else ((zrc g 0 a0 (f_X0_isLess g m a0 v6 v5)).bind fun v13 =>
if v13 = 0 then (zlt (v6 + (1 : Int32)) fun v14 =>
some (.inr (v5, v14)))
else (zlt (v6 + (1 : Int32)) fun v15 =>
some (.inr (v6, v15))))))
def f_X0_least (g : zGd) (m : zMm) (a0 : Option Nat) (a1 : Int32) (a2 : Int32) : Option (Int32) :=
(f_X0_in a1 (0 : Int32) (999 : Int32)).bind fun v1 =>
if v1 = 0 then (some ((-1 : Int32)))
else ((zLoop (b_X0_least_18 g m a0 a1) zFuel ((-1 : Int32), (0 : Int32))).bind fun v3 =>
if a2 = 0 then (some (v3))
else (if v3 = (-1 : Int32) then (some (v3))
else ((zrc g 0 a0 (f_X0_sumOf g m a0 v3 (0 : Int32))).bind fun v16 =>
some (v16))))
theorem hy_X0_least : zHy yX0_least 2 := ⟨by decide, by decide, by decide +kernel⟩
set_option maxHeartbeats 4000000 in
theorem ok_X0_least (l : Launch) (g : zGd) (m : zMm) (a0 : Option Nat) (a1 : Int32) (a2 : Int32) (z0 : Int32) (h : f_X0_least g m a0 a1 a2 = some z0) : zCT l yX0_least cX0_least 5 (some .int) 4 87 g m [va_rf a0, .int a1, .int a2] (some (.int z0)) g m := by
  refine zCT.of (own := "QuiverKin") (mn := "least") (by decide +kernel) rfl rfl (zla_r (zla_i (zla_i zla_0))) (zls_r (zls_i (zls_i zls_0))) (by decide) (fun X hxl hxg hxf hxt hxr hxn => ?_)
  have Kret : ∀ (y0 : Int32), y0 = z0 → zRe X g m (some (.int y0)) := by
    intro y0 e; cases e; exact ⟨hxf, hxr, hxn⟩
  subst hxl
  show zG X cX0_least 5 "QuiverKin" "least" 4 87 0 [(0, va_rf a0), (1, .int a1), (2, .int a2)] [] g m
  unfold f_X0_least at h
  refine g_iload_n dX0_least_0 1 rfl ?_
  refine g_iconst (v := (0 : Int32)) dX0_least_1 (by decide) ?_
  refine g_sipush (v := (999 : Int32)) dX0_least_2 (by decide) ?_
  refine g_cSRv (rv := fun x : Int32 => Value.int x) [.int a1, .int (0 : Int32), .int (999 : Int32)] (fun x0 e0 => ok_X0_in (xl X) g m a1 (0 : Int32) (999 : Int32) x0 e0) (lw_S q312 q313 q123 q314) hy_X0_in rfl ⟨by decide, by decide⟩ rfl zc_0 (by decide) dX0_least_5 h (fun v1 h => ?_)
  refine g_if_ne 13 dX0_least_8 (by decide) (fun c => ?_) (fun c => ?_)
  · have h := zite_n h c
    refine g_iconst (v := (-1 : Int32)) dX0_least_13 (by decide) ?_
    refine g_istore_n [(3, .int (-1 : Int32)), (0, va_rf a0), (1, .int a1), (2, .int a2)] dX0_least_14 (by decide) (zf_r (zf_i (zf_i zf_0))) rfl ?_
    refine g_iconst (v := (0 : Int32)) dX0_least_15 (by decide) ?_
    refine g_istore [(4, .int (0 : Int32)), (3, .int (-1 : Int32)), (0, va_rf a0), (1, .int a1), (2, .int a2)] dX0_least_16 (by decide) (zf_i (zf_r (zf_i (zf_i zf_0)))) rfl ?_
    obtain ⟨o2, h1, h2⟩ := zB_e h
    have K2 : ∀ (v3 : Int32), o2 = v3 → zG X cX0_least 5 "QuiverKin" "least" 4 87 69 [(0, va_rf a0), (2, .int a2), (3, .int v3)] [] g m := by
      intro v3 e
      rw [e] at h2
      have h := h2
      refine g_iload_n dX0_least_69 1 rfl ?_
      refine g_if_eq 87 dX0_least_70 (by decide) (fun c => ?_) (fun c => ?_)
      · have h := zite_p h c
        refine g_iload_n dX0_least_87 2 rfl ?_
        refine g_iret dX0_least_88 hxt ?_
        have e := Option.some.inj h
        exact Kret _ e
      · have h := zite_n h c
        refine g_iload_n dX0_least_73 2 rfl ?_
        refine g_iconst (v := (-1 : Int32)) dX0_least_74 (by decide) ?_
        refine g_icmp_eq 87 dX0_least_75 (by decide) (fun c => ?_) (fun c => ?_)
        · have h := zite_p h c
          refine g_iload_n dX0_least_87 2 rfl ?_
          refine g_iret dX0_least_88 hxt ?_
          have e := Option.some.inj h
          exact Kret _ e
        · have h := zite_n h c
          refine g_aload_n dX0_least_78 0 rfl ?_
          refine g_iload_n dX0_least_79 2 rfl ?_
          refine g_iconst (v := (0 : Int32)) dX0_least_80 (by decide) ?_
          refine g_cVRv (rv := fun x : Int32 => Value.int x) [.int v3, .int (0 : Int32)] (fun x0 e0 => ok_X0_sumOf (xl X) g m a0 v3 (0 : Int32) x0 e0) zc0 (by decide) (lw_V q1317 q1319 qs49 q123 q1320) rfl hy_X0_sumOf rfl ⟨by decide, by decide⟩ rfl zc_0 (by decide) dX0_least_81 h (fun v16 h => ?_)
          refine g_goto 88 dX0_least_84 (by decide) ?_
          refine g_iret dX0_least_88 hxt ?_
          have e := Option.some.inj h
          exact Kret _ e
    refine zG.sub [2, 3, 4, 1, 0] rfl ?_
    refine zLoop_ok (Φ := (fun (q : Int32 × Int32) => match q with | (v5, v6) => zG X cX0_least 5 "QuiverKin" "least" 4 87 18 [(0, va_rf a0), (1, .int a1), (2, .int a2), (3, .int v5), (4, .int v6)] [] g m)) o2 ?_ zFuel _ h1
    rintro ⟨v5, v6⟩ x4 h hl4 hr4
    unfold b_X0_least_18 at h
    have K4 : ∀ (v5 : Int32) (v6 : Int32), x4 = .inr (v5, v6) → zG X cX0_least 5 "QuiverKin" "least" 4 87 18 [(0, va_rf a0), (1, .int a1), (2, .int a2), (3, .int v5), (4, .int v6)] [] g m := by
      intro v5 v6 e
      exact hr4 _ e
    show zG X cX0_least 5 "QuiverKin" "least" 4 87 18 [(0, va_rf a0), (1, .int a1), (2, .int a2), (3, .int v5), (4, .int v6)] [] g m
    refine g_iload dX0_least_18 4 rfl ?_
    refine g_iconst (v := (1 : Int32)) dX0_least_20 (by decide) ?_
    refine g_aload_n dX0_least_21 0 rfl ?_
    refine gf_r zfd_0_0 q239  (fun _ h9 => h9) dX0_least_22 h (fun r7 h => ?_)
    refine gf_rN zfd_1_0 q177  (fun _ h9 => h9) dX0_least_25 h (fun r8 h => ?_)
    refine g_iconst (v := (5 : Int32)) dX0_least_28 (by decide) ?_
    refine g_iald dX0_least_29 h (fun v9 h => ?_)
    refine g_ishl dX0_least_30 ?_
    refine g_icmp_ge 69 dX0_least_31 (by decide) (fun c => ?_) (fun c => ?_)
    · have h := zite_p h c
      refine zG.sub [0, 2, 3] rfl ?_
      have e := Option.some.inj h
      have e := hl4 _ e.symm
      exact K2 _ e.symm
    · have h := zite_n h c
      refine g_aload_n dX0_least_34 0 rfl ?_
      refine g_iload dX0_least_35 4 rfl ?_
      refine g_iconst (v := (1 : Int32)) dX0_least_37 (by decide) ?_
      refine g_cVRv (rv := fun x : Int32 => Value.int x) [.int v6, .int (1 : Int32)] (fun x0 e0 => ok_X0_sumOf (xl X) g m a0 v6 (1 : Int32) x0 e0) zc0 (by decide) (lw_V q1317 q1319 qs49 q123 q1320) rfl hy_X0_sumOf rfl ⟨by decide, by decide⟩ rfl zc_0 (by decide) dX0_least_38 h (fun v10 h => ?_)
      refine g_iload_n dX0_least_41 1 rfl ?_
      refine g_icmp_lt 63 dX0_least_42 (by decide) (fun c => ?_) (fun c => ?_)
      · have h := zite_p h c
        refine g_iinc (v := (1 : Int32)) [(0, va_rf a0), (1, .int a1), (2, .int a2), (3, .int v5)] dX0_least_63 4 rfl (by decide) (by decide) (zf_r (zf_i (zf_i (zf_i (zf_i zf_0))))) rfl h (fun v11 h => ?_)
        refine g_goto 18 dX0_least_66 (by decide) ?_
        refine zG.sub [1, 2, 3, 4, 0] rfl ?_
        have e := Option.some.inj h
        exact K4 _ _ e.symm
      · have h := zite_n h c
        refine g_iload_n dX0_least_45 3 rfl ?_
        refine g_iconst (v := (-1 : Int32)) dX0_least_46 (by decide) ?_
        refine g_icmp_eq 60 dX0_least_47 (by decide) (fun c => ?_) (fun c => ?_)
        · have h := zite_p h c
          refine g_iload dX0_least_60 4 rfl ?_
          refine g_istore_n [(3, .int v6), (0, va_rf a0), (1, .int a1), (2, .int a2), (4, .int v6)] dX0_least_62 (by decide) (zf_r (zf_i (zf_i (zf_i (zf_i zf_0))))) rfl ?_
          refine g_iinc (v := (1 : Int32)) [(3, .int v6), (0, va_rf a0), (1, .int a1), (2, .int a2)] dX0_least_63 4 rfl (by decide) (by decide) (zf_i (zf_r (zf_i (zf_i (zf_i zf_0))))) rfl h (fun v12 h => ?_)
          refine g_goto 18 dX0_least_66 (by decide) ?_
          refine zG.sub [2, 3, 4, 1, 0] rfl ?_
          have e := Option.some.inj h
          exact K4 _ _ e.symm
        · have h := zite_n h c
          refine g_aload_n dX0_least_50 0 rfl ?_
          refine g_iload dX0_least_51 4 rfl ?_
          refine g_iload_n dX0_least_53 3 rfl ?_
          refine g_cVRv (rv := fun x : Int32 => Value.int x) [.int v6, .int v5] (fun x0 e0 => ok_X0_isLess (xl X) g m a0 v6 v5 x0 e0) zc0 (by decide) (lw_V q1321 q1323 qs50 q123 q1324) rfl hy_X0_isLess rfl ⟨by decide, by decide⟩ rfl zc_0 (by decide) dX0_least_54 h (fun v13 h => ?_)
          refine g_if_eq 63 dX0_least_57 (by decide) (fun c => ?_) (fun c => ?_)
          · have h := zite_p h c
            refine g_iinc (v := (1 : Int32)) [(0, va_rf a0), (1, .int a1), (2, .int a2), (3, .int v5)] dX0_least_63 4 rfl (by decide) (by decide) (zf_r (zf_i (zf_i (zf_i (zf_i zf_0))))) rfl h (fun v14 h => ?_)
            refine g_goto 18 dX0_least_66 (by decide) ?_
            refine zG.sub [1, 2, 3, 4, 0] rfl ?_
            have e := Option.some.inj h
            exact K4 _ _ e.symm
          · have h := zite_n h c
            refine g_iload dX0_least_60 4 rfl ?_
            refine g_istore_n [(3, .int v6), (0, va_rf a0), (1, .int a1), (2, .int a2), (4, .int v6)] dX0_least_62 (by decide) (zf_r (zf_i (zf_i (zf_i (zf_i zf_0))))) rfl ?_
            refine g_iinc (v := (1 : Int32)) [(3, .int v6), (0, va_rf a0), (1, .int a1), (2, .int a2)] dX0_least_63 4 rfl (by decide) (by decide) (zf_i (zf_r (zf_i (zf_i (zf_i zf_0))))) rfl h (fun v15 h => ?_)
            refine g_goto 18 dX0_least_66 (by decide) ?_
            refine zG.sub [2, 3, 4, 1, 0] rfl ?_
            have e := Option.some.inj h
            exact K4 _ _ e.symm
  · have h := zite_p h c
    refine g_iconst (v := (-1 : Int32)) dX0_least_11 (by decide) ?_
    refine g_iret dX0_least_12 hxt ?_
    have e := Option.some.inj h
    exact Kret _ e
/-! QuiverKin.near -/
def b_X0_near_54 (a1 : Int32) (a3 : Int32) (v10 : Int32) : Int64 × Int32 → Option ((Int64) ⊕ (Int64 × Int32)) := fun (w14, v15) =>
if a3 ≤ v15 then (some (.inl w14))
else (if v10 < v15 then (zlt (w14 * (a1.toInt64)) fun w16 =>
zlt (v15 + (1 : Int32)) fun v17 =>
some (.inr (w16, v17)))
else (zlt (w14 * (((10 : Int32) - a1).toInt64)) fun w18 =>
zlt (v15 + (1 : Int32)) fun v19 =>
some (.inr (w18, v19))))
def b_X0_near_42 (a1 : Int32) (a2 : Int32) (a3 : Int32) : Int64 × Int64 × Int32 → Option ((Int64 × Int64) ⊕ (Int64 × Int64 × Int32)) := fun (w8, w9, v10) =>
if a3 ≤ v10 then (some (.inl ((w8, w9))))
else ((zLoop (b_X0_near_54 a1 a3 v10) zFuel ((1 : Int64), (1 : Int32))).bind fun w12 =>
((if a2 ≤ v10 then (some ((0 : Int64)))
else (some (w12)) : Option (Int64))).bind fun w21 =>
zlt (w8 + w21) fun w22 =>
zlt (w9 + w12) fun w23 =>
zlt (v10 + (1 : Int32)) fun v24 =>
some (.inr (w22, w23, v24)))
def f_X0_near (g : zGd) (m : zMm) (a0 : Option Nat) (a1 : Int32) (a2 : Int32) (a3 : Int32) (a4 : Int32) : Option (Int64) :=
(f_X0_in a1 (1 : Int32) (9 : Int32)).bind fun v1 =>
if v1 = 0 then (some ((-1 : Int64)))
else ((f_X0_in a3 (1 : Int32) (12 : Int32)).bind fun v2 =>
if v2 = 0 then (some ((-1 : Int64)))
else ((f_X0_in a2 (0 : Int32) a3).bind fun v3 =>
if v3 = 0 then (some ((-1 : Int64)))
else ((zLoop (b_X0_near_42 a1 a2 a3) zFuel ((0 : Int64), (0 : Int64), (0 : Int32))).bind fun (w5, w6) =>
(f_X0_part w5 w6 a4).bind fun w25 =>
some (w25))))
theorem hy_X0_near : zHy yX0_near 4 := ⟨by decide, by decide, by decide +kernel⟩
set_option maxHeartbeats 4000000 in
theorem ok_X0_near (l : Launch) (g : zGd) (m : zMm) (a0 : Option Nat) (a1 : Int32) (a2 : Int32) (a3 : Int32) (a4 : Int32) (z0 : Int64) (h : f_X0_near g m a0 a1 a2 a3 a4 = some z0) : zCT l yX0_near cX0_near 13 (some .long) 122 2807 g m [va_rf a0, .int a1, .int a2, .int a3, .int a4] (some (.long z0)) g m := by
  refine zCT.of (own := "QuiverKin") (mn := "near") (by decide +kernel) rfl rfl (zla_r (zla_i (zla_i (zla_i (zla_i zla_0))))) (zls_r (zls_i (zls_i (zls_i (zls_i zls_0))))) (by decide) (fun X hxl hxg hxf hxt hxr hxn => ?_)
  have Kret : ∀ (y0 : Int64), y0 = z0 → zRe X g m (some (.long y0)) := by
    intro y0 e; cases e; exact ⟨hxf, hxr, hxn⟩
  subst hxl
  show zG X cX0_near 13 "QuiverKin" "near" 122 2807 0 [(0, va_rf a0), (1, .int a1), (2, .int a2), (3, .int a3), (4, .int a4)] [] g m
  unfold f_X0_near at h
  refine g_iload_n dX0_near_0 1 rfl ?_
  refine g_iconst (v := (1 : Int32)) dX0_near_1 (by decide) ?_
  refine g_bipush (v := (9 : Int32)) dX0_near_2 (by decide) ?_
  refine g_cSRv (rv := fun x : Int32 => Value.int x) [.int a1, .int (1 : Int32), .int (9 : Int32)] (fun x0 e0 => ok_X0_in (xl X) g m a1 (1 : Int32) (9 : Int32) x0 e0) (lw_S q312 q313 q123 q314) hy_X0_in rfl ⟨by decide, by decide⟩ rfl zc_0 (by decide) dX0_near_4 h (fun v1 h => ?_)
  refine g_if_eq 29 dX0_near_7 (by decide) (fun c => ?_) (fun c => ?_)
  · have h := zite_p h c
    refine g_ldc2 (v := (-1 : Int64)) q1335 dX0_near_29 ?_
    refine g_lret dX0_near_32 hxt ?_
    have e := Option.some.inj h
    exact Kret _ e
  · have h := zite_n h c
    refine g_iload_n dX0_near_10 3 rfl ?_
    refine g_iconst (v := (1 : Int32)) dX0_near_11 (by decide) ?_
    refine g_bipush (v := (12 : Int32)) dX0_near_12 (by decide) ?_
    refine g_cSRv (rv := fun x : Int32 => Value.int x) [.int a3, .int (1 : Int32), .int (12 : Int32)] (fun x0 e0 => ok_X0_in (xl X) g m a3 (1 : Int32) (12 : Int32) x0 e0) (lw_S q312 q313 q123 q314) hy_X0_in rfl ⟨by decide, by decide⟩ rfl zc_0 (by decide) dX0_near_14 h (fun v2 h => ?_)
    refine g_if_eq 29 dX0_near_17 (by decide) (fun c => ?_) (fun c => ?_)
    · have h := zite_p h c
      refine g_ldc2 (v := (-1 : Int64)) q1335 dX0_near_29 ?_
      refine g_lret dX0_near_32 hxt ?_
      have e := Option.some.inj h
      exact Kret _ e
    · have h := zite_n h c
      refine g_iload_n dX0_near_20 2 rfl ?_
      refine g_iconst (v := (0 : Int32)) dX0_near_21 (by decide) ?_
      refine g_iload_n dX0_near_22 3 rfl ?_
      refine g_cSRv (rv := fun x : Int32 => Value.int x) [.int a2, .int (0 : Int32), .int a3] (fun x0 e0 => ok_X0_in (xl X) g m a2 (0 : Int32) a3 x0 e0) (lw_S q312 q313 q123 q314) hy_X0_in rfl ⟨by decide, by decide⟩ rfl zc_0 (by decide) dX0_near_23 h (fun v3 h => ?_)
      refine g_if_ne 33 dX0_near_26 (by decide) (fun c => ?_) (fun c => ?_)
      · have h := zite_n h c
        refine g_lconst (v := (0 : Int64)) dX0_near_33 (by decide) ?_
        refine g_lstore [(5, .long (0 : Int64)), (0, va_rf a0), (1, .int a1), (2, .int a2), (3, .int a3), (4, .int a4)] dX0_near_34 (by decide) (zF_r (zF_i (zF_i (zF_i (zF_i zF_0))))) rfl ?_
        refine g_lconst (v := (0 : Int64)) dX0_near_36 (by decide) ?_
        refine g_lstore [(7, .long (0 : Int64)), (5, .long (0 : Int64)), (0, va_rf a0), (1, .int a1), (2, .int a2), (3, .int a3), (4, .int a4)] dX0_near_37 (by decide) (zF_l (zF_r (zF_i (zF_i (zF_i (zF_i zF_0)))))) rfl ?_
        refine g_iconst (v := (0 : Int32)) dX0_near_39 (by decide) ?_
        refine g_istore [(9, .int (0 : Int32)), (7, .long (0 : Int64)), (5, .long (0 : Int64)), (0, va_rf a0), (1, .int a1), (2, .int a2), (3, .int a3), (4, .int a4)] dX0_near_40 (by decide) (zf_l (zf_l (zf_r (zf_i (zf_i (zf_i (zf_i zf_0))))))) rfl ?_
        obtain ⟨o4, h1, h2⟩ := zB_e h
        have K4 : ∀ (w5 : Int64) (w6 : Int64), o4 = (w5, w6) → zG X cX0_near 13 "QuiverKin" "near" 122 2807 118 [(4, .int a4), (5, .long w5), (7, .long w6)] [] g m := by
          intro w5 w6 e
          rw [e] at h2
          have h := h2
          refine g_lload dX0_near_118 1 rfl ?_
          refine g_lload dX0_near_120 2 rfl ?_
          refine g_iload dX0_near_122 0 rfl ?_
          refine g_cSRv (rv := fun x : Int64 => Value.long x) [.long w5, .long w6, .int a4] (fun x0 e0 => ok_X0_part (xl X) g m w5 w6 a4 x0 e0) (lw_S q1303 q1304 q123 q1305) hy_X0_part rfl ⟨by decide, by decide⟩ rfl zc_0 (by decide) dX0_near_124 h (fun w25 h => ?_)
          refine g_lret dX0_near_127 hxt ?_
          have e := Option.some.inj h
          exact Kret _ e
        refine zG.sub [4, 5, 6, 7, 2, 1, 0] rfl ?_
        refine zLoop_ok (Φ := (fun (q : Int64 × Int64 × Int32) => match q with | (w8, w9, v10) => zG X cX0_near 13 "QuiverKin" "near" 122 2807 42 [(1, .int a1), (2, .int a2), (3, .int a3), (4, .int a4), (5, .long w8), (7, .long w9), (9, .int v10)] [] g m)) o4 ?_ zFuel _ h1
        rintro ⟨w8, w9, v10⟩ x7 h hl7 hr7
        unfold b_X0_near_42 at h
        have K7 : ∀ (w8 : Int64) (w9 : Int64) (v10 : Int32), x7 = .inr (w8, w9, v10) → zG X cX0_near 13 "QuiverKin" "near" 122 2807 42 [(1, .int a1), (2, .int a2), (3, .int a3), (4, .int a4), (5, .long w8), (7, .long w9), (9, .int v10)] [] g m := by
          intro w8 w9 v10 e
          exact hr7 _ e
        show zG X cX0_near 13 "QuiverKin" "near" 122 2807 42 [(1, .int a1), (2, .int a2), (3, .int a3), (4, .int a4), (5, .long w8), (7, .long w9), (9, .int v10)] [] g m
        refine g_iload dX0_near_42 6 rfl ?_
        refine g_iload_n dX0_near_44 2 rfl ?_
        refine g_icmp_ge 118 dX0_near_45 (by decide) (fun c => ?_) (fun c => ?_)
        · have h := zite_p h c
          refine zG.sub [3, 4, 5] rfl ?_
          have e := Option.some.inj h
          have e := hl7 _ e.symm
          exact K4 _ _ e.symm
        · have h := zite_n h c
          refine g_lconst (v := (1 : Int64)) dX0_near_48 (by decide) ?_
          refine g_lstore [(10, .long (1 : Int64)), (1, .int a1), (2, .int a2), (3, .int a3), (4, .int a4), (5, .long w8), (7, .long w9), (9, .int v10)] dX0_near_49 (by decide) (zF_i (zF_i (zF_i (zF_i (zF_l (zF_l (zF_i zF_0))))))) rfl ?_
          refine g_iconst (v := (1 : Int32)) dX0_near_51 (by decide) ?_
          refine g_istore [(12, .int (1 : Int32)), (10, .long (1 : Int64)), (1, .int a1), (2, .int a2), (3, .int a3), (4, .int a4), (5, .long w8), (7, .long w9), (9, .int v10)] dX0_near_52 (by decide) (zf_l (zf_i (zf_i (zf_i (zf_i (zf_l (zf_l (zf_i zf_0)))))))) rfl ?_
          obtain ⟨o11, h1, h2⟩ := zB_e h
          have K11 : ∀ (w12 : Int64), o11 = w12 → zG X cX0_near 13 "QuiverKin" "near" 122 2807 88 [(1, .int a1), (2, .int a2), (3, .int a3), (4, .int a4), (5, .long w8), (7, .long w9), (9, .int v10), (10, .long w12)] [] g m := by
            intro w12 e
            rw [e] at h2
            have h := h2
            refine g_lload dX0_near_88 4 rfl ?_
            refine g_iload dX0_near_90 6 rfl ?_
            refine g_iload_n dX0_near_92 1 rfl ?_
            obtain ⟨o20, h1, h2⟩ := zB_e h
            have K20 : ∀ (w21 : Int64), o20 = w21 → zG X cX0_near 13 "QuiverKin" "near" 122 2807 102 [(1, .int a1), (2, .int a2), (3, .int a3), (4, .int a4), (7, .long w9), (9, .int v10), (10, .long w12)] [.long w21, .long w8] g m := by
              intro w21 e
              rw [e] at h2
              have h := h2
              refine g_ladd dX0_near_102 ?_
              refine g_letl h (fun w22 h => ?_)
              refine g_lstore [(5, .long w22), (1, .int a1), (2, .int a2), (3, .int a3), (4, .int a4), (7, .long w9), (9, .int v10), (10, .long w12)] dX0_near_103 (by decide) (zF_i (zF_i (zF_i (zF_i (zF_l (zF_i (zF_l zF_0))))))) rfl ?_
              refine g_lload dX0_near_105 5 rfl ?_
              refine g_lload dX0_near_107 7 rfl ?_
              refine g_ladd dX0_near_109 ?_
              refine g_letl h (fun w23 h => ?_)
              refine g_lstore [(7, .long w23), (5, .long w22), (1, .int a1), (2, .int a2), (3, .int a3), (4, .int a4), (9, .int v10), (10, .long w12)] dX0_near_110 (by decide) (zF_l (zF_i (zF_i (zF_i (zF_i (zF_l (zF_i (zF_l zF_0)))))))) rfl ?_
              refine g_iinc (v := (1 : Int32)) [(7, .long w23), (5, .long w22), (1, .int a1), (2, .int a2), (3, .int a3), (4, .int a4), (10, .long w12)] dX0_near_112 6 rfl (by decide) (by decide) (zf_l (zf_l (zf_i (zf_i (zf_i (zf_i (zf_i (zf_l zf_0)))))))) rfl h (fun v24 h => ?_)
              refine g_goto 42 dX0_near_115 (by decide) ?_
              refine zG.sub [3, 4, 5, 6, 2, 1, 0] rfl ?_
              have e := Option.some.inj h
              exact K7 _ _ _ e.symm
            have h := h1
            refine g_icmp_ge 101 dX0_near_93 (by decide) (fun c => ?_) (fun c => ?_)
            · have h := zite_p h c
              refine g_lconst (v := (0 : Int64)) dX0_near_101 (by decide) ?_
              refine zG.sub [0, 1, 2, 3, 5, 6, 7] rfl ?_
              have e := Option.some.inj h
              exact K20 _ e.symm
            · have h := zite_n h c
              refine g_lload dX0_near_96 7 rfl ?_
              refine g_goto 102 dX0_near_98 (by decide) ?_
              refine zG.sub [0, 1, 2, 3, 5, 6, 7] rfl ?_
              have e := Option.some.inj h
              exact K20 _ e.symm
          refine zG.sub [2, 3, 4, 5, 6, 7, 8, 1, 0] rfl ?_
          refine zLoop_ok (Φ := (fun (q : Int64 × Int32) => match q with | (w14, v15) => zG X cX0_near 13 "QuiverKin" "near" 122 2807 54 [(1, .int a1), (2, .int a2), (3, .int a3), (4, .int a4), (5, .long w8), (7, .long w9), (9, .int v10), (10, .long w14), (12, .int v15)] [] g m)) o11 ?_ zFuel _ h1
          rintro ⟨w14, v15⟩ x13 h hl13 hr13
          unfold b_X0_near_54 at h
          have K13 : ∀ (w14 : Int64) (v15 : Int32), x13 = .inr (w14, v15) → zG X cX0_near 13 "QuiverKin" "near" 122 2807 54 [(1, .int a1), (2, .int a2), (3, .int a3), (4, .int a4), (5, .long w8), (7, .long w9), (9, .int v10), (10, .long w14), (12, .int v15)] [] g m := by
            intro w14 v15 e
            exact hr13 _ e
          show zG X cX0_near 13 "QuiverKin" "near" 122 2807 54 [(1, .int a1), (2, .int a2), (3, .int a3), (4, .int a4), (5, .long w8), (7, .long w9), (9, .int v10), (10, .long w14), (12, .int v15)] [] g m
          refine g_iload dX0_near_54 8 rfl ?_
          refine g_iload_n dX0_near_56 2 rfl ?_
          refine g_icmp_ge 88 dX0_near_57 (by decide) (fun c => ?_) (fun c => ?_)
          · have h := zite_p h c
            refine zG.sub [0, 1, 2, 3, 4, 5, 6, 7] rfl ?_
            have e := Option.some.inj h
            have e := hl13 _ e.symm
            exact K11 _ e.symm
          · have h := zite_n h c
            refine g_lload dX0_near_60 7 rfl ?_
            refine g_iload dX0_near_62 8 rfl ?_
            refine g_iload dX0_near_64 6 rfl ?_
            refine g_icmp_gt 77 dX0_near_66 (by decide) (fun c => ?_) (fun c => ?_)
            · have h := zite_p h c
              refine g_iload_n dX0_near_77 0 rfl ?_
              refine g_i2l dX0_near_78 ?_
              refine g_lmul dX0_near_79 ?_
              refine g_letl h (fun w16 h => ?_)
              refine g_lstore [(10, .long w16), (1, .int a1), (2, .int a2), (3, .int a3), (4, .int a4), (5, .long w8), (7, .long w9), (9, .int v10), (12, .int v15)] dX0_near_80 (by decide) (zF_i (zF_i (zF_i (zF_i (zF_l (zF_l (zF_i (zF_l (zF_i zF_0))))))))) rfl ?_
              refine g_iinc (v := (1 : Int32)) [(10, .long w16), (1, .int a1), (2, .int a2), (3, .int a3), (4, .int a4), (5, .long w8), (7, .long w9), (9, .int v10)] dX0_near_82 8 rfl (by decide) (by decide) (zf_l (zf_i (zf_i (zf_i (zf_i (zf_l (zf_l (zf_i (zf_i zf_0))))))))) rfl h (fun v17 h => ?_)
              refine g_goto 54 dX0_near_85 (by decide) ?_
              refine zG.sub [2, 3, 4, 5, 6, 7, 8, 1, 0] rfl ?_
              have e := Option.some.inj h
              exact K13 _ _ e.symm
            · have h := zite_n h c
              refine g_bipush (v := (10 : Int32)) dX0_near_69 (by decide) ?_
              refine g_iload_n dX0_near_71 0 rfl ?_
              refine g_isub dX0_near_72 ?_
              refine g_i2l dX0_near_73 ?_
              refine g_goto 79 dX0_near_74 (by decide) ?_
              refine g_lmul dX0_near_79 ?_
              refine g_letl h (fun w18 h => ?_)
              refine g_lstore [(10, .long w18), (1, .int a1), (2, .int a2), (3, .int a3), (4, .int a4), (5, .long w8), (7, .long w9), (9, .int v10), (12, .int v15)] dX0_near_80 (by decide) (zF_i (zF_i (zF_i (zF_i (zF_l (zF_l (zF_i (zF_l (zF_i zF_0))))))))) rfl ?_
              refine g_iinc (v := (1 : Int32)) [(10, .long w18), (1, .int a1), (2, .int a2), (3, .int a3), (4, .int a4), (5, .long w8), (7, .long w9), (9, .int v10)] dX0_near_82 8 rfl (by decide) (by decide) (zf_l (zf_i (zf_i (zf_i (zf_i (zf_l (zf_l (zf_i (zf_i zf_0))))))))) rfl h (fun v19 h => ?_)
              refine g_goto 54 dX0_near_85 (by decide) ?_
              refine zG.sub [2, 3, 4, 5, 6, 7, 8, 1, 0] rfl ?_
              have e := Option.some.inj h
              exact K13 _ _ e.symm
      · have h := zite_p h c
        refine g_ldc2 (v := (-1 : Int64)) q1335 dX0_near_29 ?_
        refine g_lret dX0_near_32 hxt ?_
        have e := Option.some.inj h
        exact Kret _ e
/-! SCC.sixes -/
theorem hy_X0_sixesOf : zHy yX0_sixesOf 1 := ⟨by decide, by decide, by decide +kernel⟩
def q_X0_sixesOf (rec : (Int32 → Option (Int32))) (a0 : Int32) : Option (Int32) :=
if a0 = 0 then (some ((0 : Int32)))
else ((rec (a0 / (10 : Int32))).bind fun v1 =>
some ((((6 : Int32) * v1) + (zrem a0 (10 : Int32)))))
set_option maxHeartbeats 4000000 in
theorem qk_X0_sixesOf (l : Launch) (g : zGd) (m : zMm) (fR lR : Nat) (rec : (Int32 → Option (Int32))) (hrec1 : ∀ (g : zGd) (m : zMm) (a0 : Int32) (z0 : Int32), rec a0 = some z0 → zCT l yX0_sixesOf cX0_sixesOf 1 (some .int) fR lR g m [.int a0] (some (.int z0)) g m) (a0 : Int32) (z0 : Int32) (h : q_X0_sixesOf rec a0 = some z0) : zCT l yX0_sixesOf cX0_sixesOf 1 (some .int) (1 + fR) (20 + lR) g m [.int a0] (some (.int z0)) g m := by
  refine zCT.of (own := "QuiverKin") (mn := "sixesOf") (by decide +kernel) rfl rfl (zla_i zla_0) (zls_i zls_0) (by decide) (fun X hxl hxg hxf hxt hxr hxn => ?_)
  have Kret : ∀ (y0 : Int32), y0 = z0 → zRe X g m (some (.int y0)) := by
    intro y0 e; cases e; exact ⟨hxf, hxr, hxn⟩
  subst hxl
  show zG X cX0_sixesOf 1 "QuiverKin" "sixesOf" (1 + fR) (20 + lR) 0 [(0, .int a0)] [] g m
  unfold q_X0_sixesOf at h
  refine g_iload_n dX0_sixesOf_0 0 rfl ?_
  refine g_if_ne 8 dX0_sixesOf_1 (by decide) (fun c => ?_) (fun c => ?_)
  · have h := zite_n h c
    refine g_bipush (v := (6 : Int32)) dX0_sixesOf_8 (by decide) ?_
    refine g_iload_n dX0_sixesOf_10 0 rfl ?_
    refine g_bipush (v := (10 : Int32)) dX0_sixesOf_11 (by decide) ?_
    refine g_idivC dX0_sixesOf_13 (by decide) ?_
    refine g_cSRv (rv := fun x : Int32 => Value.int x) [.int (a0 / (10 : Int32))] (fun x0 e0 => hrec1 g m (a0 / (10 : Int32)) x0 e0) (lw_S q1344 q1345 q123 q1346) hy_X0_sixesOf rfl ⟨by omega, by omega⟩ rfl (zc_i zc_0) (by decide) dX0_sixesOf_14 h (fun v1 h => ?_)
    refine g_imul dX0_sixesOf_17 ?_
    refine g_iload_n dX0_sixesOf_18 0 rfl ?_
    refine g_bipush (v := (10 : Int32)) dX0_sixesOf_19 (by decide) ?_
    refine g_iremC dX0_sixesOf_21 (by decide) ?_
    refine g_iadd dX0_sixesOf_22 ?_
    refine g_iret dX0_sixesOf_23 hxt ?_
    have e := Option.some.inj h
    exact Kret _ e
  · have h := zite_p h c
    refine g_iconst (v := (0 : Int32)) dX0_sixesOf_4 (by decide) ?_
    refine g_goto 23 dX0_sixesOf_5 (by decide) ?_
    refine g_iret dX0_sixesOf_23 hxt ?_
    have e := Option.some.inj h
    exact Kret _ e
def r_sixes : Nat → (Int32 → Option (Int32))
  | 0 => fun _ => none
  | d + 1 => q_X0_sixesOf (r_sixes d)
theorem okr_sixes (l : Launch) : ∀ d : Nat, (∀ (g : zGd) (m : zMm) (a0 : Int32) (z0 : Int32), (r_sixes d) a0 = some z0 → zCT l yX0_sixesOf cX0_sixesOf 1 (some .int) (1 * d) (20 * d) g m [.int a0] (some (.int z0)) g m)
  | 0 => (fun g m a0 z0 h => by cases h)
  | d + 1 => by
    have ih := okr_sixes l d
    exact (fun g m a0 z0 h => by rw [Nat.mul_succ, Nat.mul_succ, Nat.add_comm (1 * d), Nat.add_comm (20 * d)]; exact qk_X0_sixesOf l g m _ _ (r_sixes d) ih a0 z0 h)
def f_X0_sixesOf (a0 : Int32) : Option (Int32) := (r_sixes 20) a0
theorem ok_X0_sixesOf (l : Launch) (g : zGd) (m : zMm) (a0 : Int32) (z0 : Int32) (h : f_X0_sixesOf a0 = some z0) : zCT l yX0_sixesOf cX0_sixesOf 1 (some .int) 20 400 g m [.int a0] (some (.int z0)) g m := (okr_sixes l 20) g m a0 z0 h
/-! QuiverKin.bitten -/
def b_X0_bitten_10 (a0 : Int32) (a1 : Int32) (a2 : Int32) : Int32 × Int32 × Int32 → Option ((Int32) ⊕ (Int32 × Int32 × Int32)) := fun (v4, v5, v6) =>
if (5 : Int32) ≤ v6 then (some (.inl v4))
else ((zdiv a0 v5).bind fun v7 =>
zlt (zrem v7 (10 : Int32)) fun v8 =>
((if a1 ≤ v6 then ((f_J7_min v8 a2).bind fun v11 =>
some (v11))
else (some (v8)) : Option (Int32))).bind fun v10 =>
zlt (v4 + (v5 * v10)) fun v12 =>
zlt (v5 / (10 : Int32)) fun v13 =>
zlt (v6 + (1 : Int32)) fun v14 =>
some (.inr (v12, v13, v14)))
def f_X0_bitten (a0 : Int32) (a1 : Int32) (a2 : Int32) : Option (Int32) :=
(zLoop (b_X0_bitten_10 a0 a1 a2) zFuel ((0 : Int32), (10000 : Int32), (0 : Int32))).bind fun v2 =>
some (v2)
theorem hy_X0_bitten : zHy yX0_bitten 3 := ⟨by decide, by decide, by decide +kernel⟩
set_option maxHeartbeats 4000000 in
theorem ok_X0_bitten (l : Launch) (g : zGd) (m : zMm) (a0 : Int32) (a1 : Int32) (a2 : Int32) (z0 : Int32) (h : f_X0_bitten a0 a1 a2 = some z0) : zCT l yX0_bitten cX0_bitten 7 (some .int) 2 41 g m [.int a0, .int a1, .int a2] (some (.int z0)) g m := by
  refine zCT.of (own := "QuiverKin") (mn := "bitten") (by decide +kernel) rfl rfl (zla_i (zla_i (zla_i zla_0))) (zls_i (zls_i (zls_i zls_0))) (by decide) (fun X hxl hxg hxf hxt hxr hxn => ?_)
  have Kret : ∀ (y0 : Int32), y0 = z0 → zRe X g m (some (.int y0)) := by
    intro y0 e; cases e; exact ⟨hxf, hxr, hxn⟩
  subst hxl
  show zG X cX0_bitten 7 "QuiverKin" "bitten" 2 41 0 [(0, .int a0), (1, .int a1), (2, .int a2)] [] g m
  unfold f_X0_bitten at h
  refine g_iconst (v := (0 : Int32)) dX0_bitten_0 (by decide) ?_
  refine g_istore_n [(3, .int (0 : Int32)), (0, .int a0), (1, .int a1), (2, .int a2)] dX0_bitten_1 (by decide) (zf_i (zf_i (zf_i zf_0))) rfl ?_
  refine g_sipush (v := (10000 : Int32)) dX0_bitten_2 (by decide) ?_
  refine g_istore [(4, .int (10000 : Int32)), (3, .int (0 : Int32)), (0, .int a0), (1, .int a1), (2, .int a2)] dX0_bitten_5 (by decide) (zf_i (zf_i (zf_i (zf_i zf_0)))) rfl ?_
  refine g_iconst (v := (0 : Int32)) dX0_bitten_7 (by decide) ?_
  refine g_istore [(5, .int (0 : Int32)), (4, .int (10000 : Int32)), (3, .int (0 : Int32)), (0, .int a0), (1, .int a1), (2, .int a2)] dX0_bitten_8 (by decide) (zf_i (zf_i (zf_i (zf_i (zf_i zf_0))))) rfl ?_
  obtain ⟨o1, h1, h2⟩ := zB_e h
  have K1 : ∀ (v2 : Int32), o1 = v2 → zG X cX0_bitten 7 "QuiverKin" "bitten" 2 41 61 [(3, .int v2)] [] g m := by
    intro v2 e
    rw [e] at h2
    have h := h2
    refine g_iload_n dX0_bitten_61 0 rfl ?_
    refine g_iret dX0_bitten_62 hxt ?_
    have e := Option.some.inj h
    exact Kret _ e
  refine zG.sub [3, 4, 5, 2, 1, 0] rfl ?_
  refine zLoop_ok (Φ := (fun (q : Int32 × Int32 × Int32) => match q with | (v4, v5, v6) => zG X cX0_bitten 7 "QuiverKin" "bitten" 2 41 10 [(0, .int a0), (1, .int a1), (2, .int a2), (3, .int v4), (4, .int v5), (5, .int v6)] [] g m)) o1 ?_ zFuel _ h1
  rintro ⟨v4, v5, v6⟩ x3 h hl3 hr3
  unfold b_X0_bitten_10 at h
  have K3 : ∀ (v4 : Int32) (v5 : Int32) (v6 : Int32), x3 = .inr (v4, v5, v6) → zG X cX0_bitten 7 "QuiverKin" "bitten" 2 41 10 [(0, .int a0), (1, .int a1), (2, .int a2), (3, .int v4), (4, .int v5), (5, .int v6)] [] g m := by
    intro v4 v5 v6 e
    exact hr3 _ e
  show zG X cX0_bitten 7 "QuiverKin" "bitten" 2 41 10 [(0, .int a0), (1, .int a1), (2, .int a2), (3, .int v4), (4, .int v5), (5, .int v6)] [] g m
  refine g_iload dX0_bitten_10 5 rfl ?_
  refine g_iconst (v := (5 : Int32)) dX0_bitten_12 (by decide) ?_
  refine g_icmp_ge 61 dX0_bitten_13 (by decide) (fun c => ?_) (fun c => ?_)
  · have h := zite_p h c
    refine zG.sub [3] rfl ?_
    have e := Option.some.inj h
    have e := hl3 _ e.symm
    exact K1 _ e.symm
  · have h := zite_n h c
    refine g_iload_n dX0_bitten_16 0 rfl ?_
    refine g_iload dX0_bitten_17 4 rfl ?_
    refine g_idiv dX0_bitten_19 h (fun v7 h => ?_)
    refine g_bipush (v := (10 : Int32)) dX0_bitten_20 (by decide) ?_
    refine g_iremC dX0_bitten_22 (by decide) ?_
    refine g_leti h (fun v8 h => ?_)
    refine g_istore [(6, .int v8), (0, .int a0), (1, .int a1), (2, .int a2), (3, .int v4), (4, .int v5), (5, .int v6)] dX0_bitten_23 (by decide) (zf_i (zf_i (zf_i (zf_i (zf_i (zf_i zf_0)))))) rfl ?_
    refine g_iload_n dX0_bitten_25 4 rfl ?_
    refine g_iload dX0_bitten_26 5 rfl ?_
    refine g_iload dX0_bitten_28 6 rfl ?_
    refine g_iload_n dX0_bitten_30 2 rfl ?_
    obtain ⟨o9, h1, h2⟩ := zB_e h
    have K9 : ∀ (v10 : Int32), o9 = v10 → zG X cX0_bitten 7 "QuiverKin" "bitten" 2 41 45 [(0, .int a0), (1, .int a1), (2, .int a2), (4, .int v5), (5, .int v6)] [.int v10, .int v5, .int v4] g m := by
      intro v10 e
      rw [e] at h2
      have h := h2
      refine g_imul dX0_bitten_45 ?_
      refine g_iadd dX0_bitten_46 ?_
      refine g_leti h (fun v12 h => ?_)
      refine g_istore_n [(3, .int v12), (0, .int a0), (1, .int a1), (2, .int a2), (4, .int v5), (5, .int v6)] dX0_bitten_47 (by decide) (zf_i (zf_i (zf_i (zf_i (zf_i zf_0))))) rfl ?_
      refine g_iload dX0_bitten_48 4 rfl ?_
      refine g_bipush (v := (10 : Int32)) dX0_bitten_50 (by decide) ?_
      refine g_idivC dX0_bitten_52 (by decide) ?_
      refine g_leti h (fun v13 h => ?_)
      refine g_istore [(4, .int v13), (3, .int v12), (0, .int a0), (1, .int a1), (2, .int a2), (5, .int v6)] dX0_bitten_53 (by decide) (zf_i (zf_i (zf_i (zf_i (zf_i (zf_i zf_0)))))) rfl ?_
      refine g_iinc (v := (1 : Int32)) [(4, .int v13), (3, .int v12), (0, .int a0), (1, .int a1), (2, .int a2)] dX0_bitten_55 5 rfl (by decide) (by decide) (zf_i (zf_i (zf_i (zf_i (zf_i (zf_i zf_0)))))) rfl h (fun v14 h => ?_)
      refine g_goto 10 dX0_bitten_58 (by decide) ?_
      refine zG.sub [3, 4, 5, 2, 1, 0] rfl ?_
      have e := Option.some.inj h
      exact K3 _ _ _ e.symm
    have h := h1
    refine g_icmp_ge 39 dX0_bitten_31 (by decide) (fun c => ?_) (fun c => ?_)
    · have h := zite_p h c
      refine g_iload dX0_bitten_39 0 rfl ?_
      refine g_iload_n dX0_bitten_41 3 rfl ?_
      refine g_cSRv (rv := fun x : Int32 => Value.int x) [.int v8, .int a2] (fun x0 e0 => ok_J7_min (xl X) g m v8 a2 x0 e0) (lw_S q907 q485 q136 q486) hy_J7_min rfl ⟨by decide, by decide⟩ rfl (zc_i (zc_i zc_0)) (by decide) dX0_bitten_42 h (fun v11 h => ?_)
      refine zG.sub [1, 2, 3, 5, 6] rfl ?_
      have e := Option.some.inj h
      exact K9 _ e.symm
    · have h := zite_n h c
      refine g_iload dX0_bitten_34 0 rfl ?_
      refine g_goto 45 dX0_bitten_36 (by decide) ?_
      refine zG.sub [1, 2, 3, 5, 6] rfl ?_
      have e := Option.some.inj h
      exact K9 _ e.symm
/-! QuiverKin.wideOf -/
def b_X0_wideOf_4  : Int32 × Int32 → Option ((Int32) ⊕ (Int32 × Int32)) := fun (v4, v5) =>
if (4 : Int32) ≤ v5 then (some (.inl v4))
else (zlt (v4 / (10 : Int32)) fun v6 =>
zlt (v5 + (1 : Int32)) fun v7 =>
some (.inr (v6, v7)))
def f_X0_wideOf (a0 : Int32) (a1 : Int32) : Option (Int32) :=
(zLoop b_X0_wideOf_4 zFuel (a0, a1)).bind fun v2 =>
some ((zrem v2 (10 : Int32)))
theorem hy_X0_wideOf : zHy yX0_wideOf 2 := ⟨by decide, by decide, by decide +kernel⟩
set_option maxHeartbeats 4000000 in
theorem ok_X0_wideOf (l : Launch) (g : zGd) (m : zMm) (a0 : Int32) (a1 : Int32) (z0 : Int32) (h : f_X0_wideOf a0 a1 = some z0) : zCT l yX0_wideOf cX0_wideOf 4 (some .int) 1 20 g m [.int a0, .int a1] (some (.int z0)) g m := by
  refine zCT.of (own := "QuiverKin") (mn := "wideOf") (by decide +kernel) rfl rfl (zla_i (zla_i zla_0)) (zls_i (zls_i zls_0)) (by decide) (fun X hxl hxg hxf hxt hxr hxn => ?_)
  have Kret : ∀ (y0 : Int32), y0 = z0 → zRe X g m (some (.int y0)) := by
    intro y0 e; cases e; exact ⟨hxf, hxr, hxn⟩
  subst hxl
  show zG X cX0_wideOf 4 "QuiverKin" "wideOf" 1 20 0 [(0, .int a0), (1, .int a1)] [] g m
  unfold f_X0_wideOf at h
  refine g_iload_n dX0_wideOf_0 0 rfl ?_
  refine g_istore_n [(2, .int a0), (0, .int a0), (1, .int a1)] dX0_wideOf_1 (by decide) (zf_i (zf_i zf_0)) rfl ?_
  refine g_iload_n dX0_wideOf_2 2 rfl ?_
  refine g_istore_n [(3, .int a1), (2, .int a0), (0, .int a0), (1, .int a1)] dX0_wideOf_3 (by decide) (zf_i (zf_i (zf_i zf_0))) rfl ?_
  obtain ⟨o1, h1, h2⟩ := zB_e h
  have K1 : ∀ (v2 : Int32), o1 = v2 → zG X cX0_wideOf 4 "QuiverKin" "wideOf" 1 20 20 [(2, .int v2)] [] g m := by
    intro v2 e
    rw [e] at h2
    have h := h2
    refine g_iload_n dX0_wideOf_20 0 rfl ?_
    refine g_bipush (v := (10 : Int32)) dX0_wideOf_21 (by decide) ?_
    refine g_iremC dX0_wideOf_23 (by decide) ?_
    refine g_iret dX0_wideOf_24 hxt ?_
    have e := Option.some.inj h
    exact Kret _ e
  refine zG.sub [1, 0] rfl ?_
  refine zLoop_ok (Φ := (fun (q : Int32 × Int32) => match q with | (v4, v5) => zG X cX0_wideOf 4 "QuiverKin" "wideOf" 1 20 4 [(2, .int v4), (3, .int v5)] [] g m)) o1 ?_ zFuel _ h1
  rintro ⟨v4, v5⟩ x3 h hl3 hr3
  unfold b_X0_wideOf_4 at h
  have K3 : ∀ (v4 : Int32) (v5 : Int32), x3 = .inr (v4, v5) → zG X cX0_wideOf 4 "QuiverKin" "wideOf" 1 20 4 [(2, .int v4), (3, .int v5)] [] g m := by
    intro v4 v5 e
    exact hr3 _ e
  show zG X cX0_wideOf 4 "QuiverKin" "wideOf" 1 20 4 [(2, .int v4), (3, .int v5)] [] g m
  refine g_iload_n dX0_wideOf_4 1 rfl ?_
  refine g_iconst (v := (4 : Int32)) dX0_wideOf_5 (by decide) ?_
  refine g_icmp_ge 20 dX0_wideOf_6 (by decide) (fun c => ?_) (fun c => ?_)
  · have h := zite_p h c
    refine zG.sub [0] rfl ?_
    have e := Option.some.inj h
    have e := hl3 _ e.symm
    exact K1 _ e.symm
  · have h := zite_n h c
    refine g_iload_n dX0_wideOf_9 0 rfl ?_
    refine g_bipush (v := (10 : Int32)) dX0_wideOf_10 (by decide) ?_
    refine g_idivC dX0_wideOf_12 (by decide) ?_
    refine g_leti h (fun v6 h => ?_)
    refine g_istore_n [(2, .int v6), (3, .int v5)] dX0_wideOf_13 (by decide) (zf_i (zf_i zf_0)) rfl ?_
    refine g_iinc (v := (1 : Int32)) [(2, .int v6)] dX0_wideOf_14 1 rfl (by decide) (by decide) (zf_i (zf_i zf_0)) rfl h (fun v7 h => ?_)
    refine g_goto 4 dX0_wideOf_17 (by decide) ?_
    refine zG.sub [1, 0] rfl ?_
    have e := Option.some.inj h
    exact K3 _ _ e.symm
/-! SCC.wins -/
theorem hy_X0_wins : zHy yX0_wins 1 := ⟨by decide, by decide, by decide +kernel⟩
theorem hy_X0_biteOf : zHy yX0_biteOf 1 := ⟨by decide, by decide, by decide +kernel⟩
def q_X0_wins (rec : (zGd → zMm → Option Nat → Int32 → Option (Int32 × zMm)) × (zGd → zMm → Option Nat → Int32 → Option (Int32 × zMm))) (g : zGd) (m : zMm) (a0 : Option Nat) (a1 : Int32) : Option (Int32 × zMm) :=
(f_X0_sixesOf a1).bind fun v1 =>
(zgr g m 0 20 a0).bind fun r2 =>
(zald 102 g m r2 v1).bind fun v3 =>
((if v3 = 0 then ((zgr g m 0 20 a0).bind fun r6 =>
(zrc g 0 a0 (rec.2 g m a0 a1)).bind fun (v7, m8) =>
if v7 = (-1 : Int32) then ((zast 102 g m8 r6 v1 (vp_nar .byte (zi2b (1 : Int32)))).bind fun m10 =>
some (m10))
else ((zast 102 g m8 r6 v1 (vp_nar .byte (zi2b (2 : Int32)))).bind fun m9 =>
some (m9)))
else (some (m)) : Option (zMm))).bind fun m5 =>
(zgr g m5 0 20 a0).bind fun r11 =>
(zald 102 g m5 r11 v1).bind fun v12 =>
if v12 = (2 : Int32) then (some (((1 : Int32), m5)))
else (some (((0 : Int32), m5)))
set_option maxHeartbeats 4000000 in
theorem qk_X0_wins (l : Launch) (g : zGd) (m : zMm) (fR lR : Nat) (rec : (zGd → zMm → Option Nat → Int32 → Option (Int32 × zMm)) × (zGd → zMm → Option Nat → Int32 → Option (Int32 × zMm))) (hrec1 : ∀ (g : zGd) (m : zMm) (a0 : Option Nat) (a1 : Int32) (z0 : Int32) (m0 : zMm), rec.1 g m a0 a1 = some (z0, m0) → zCT l yX0_wins cX0_wins 3 (some .boolean) fR lR g m [va_rf a0, .int a1] (some (.int z0)) g m0) (hrec2 : ∀ (g : zGd) (m : zMm) (a0 : Option Nat) (a1 : Int32) (z0 : Int32) (m0 : zMm), rec.2 g m a0 a1 = some (z0, m0) → zCT l yX0_biteOf cX0_biteOf 4 (some .int) fR lR g m [va_rf a0, .int a1] (some (.int z0)) g m0) (a0 : Option Nat) (a1 : Int32) (z0 : Int32) (m0 : zMm) (h : q_X0_wins rec g m a0 a1 = some (z0, m0)) : zCT l yX0_wins cX0_wins 3 (some .boolean) (21 + fR) (420 + lR) g m [va_rf a0, .int a1] (some (.int z0)) g m0 := by
  refine zCT.of (own := "QuiverKin") (mn := "wins") (by decide +kernel) rfl rfl (zla_r (zla_i zla_0)) (zls_r (zls_i zls_0)) (by decide) (fun X hxl hxg hxf hxt hxr hxn => ?_)
  have Kret : ∀ (y0 : Int32) (y1 : zMm), (y0, y1) = (z0, m0) → zRe X g y1 (some (.int y0)) := by
    intro y0 y1 e; cases e; exact ⟨hxf, hxr, hxn⟩
  subst hxl
  show zG X cX0_wins 3 "QuiverKin" "wins" (21 + fR) (420 + lR) 0 [(0, va_rf a0), (1, .int a1)] [] g m
  unfold q_X0_wins at h
  refine g_iload_n dX0_wins_0 1 rfl ?_
  refine g_cSRv (rv := fun x : Int32 => Value.int x) [.int a1] (fun x0 e0 => ok_X0_sixesOf (xl X) g m a1 x0 e0) (lw_S q1344 q1345 q123 q1346) hy_X0_sixesOf rfl ⟨by omega, by omega⟩ rfl zc_0 (by decide) dX0_wins_1 h (fun v1 h => ?_)
  refine g_istore_n [(2, .int v1), (0, va_rf a0), (1, .int a1)] dX0_wins_4 (by decide) (zf_r (zf_i zf_0)) rfl ?_
  refine g_aload_n dX0_wins_5 1 rfl ?_
  refine gf_r zfd_0_20 q259  (fun _ h9 => h9) dX0_wins_6 h (fun r2 h => ?_)
  refine g_iload_n dX0_wins_9 0 rfl ?_
  refine g_bald dX0_wins_10 h (fun v3 h => ?_)
  obtain ⟨o4, h1, h2⟩ := zB_e h
  have K4 : ∀ (m5 : zMm), o4 = m5 → zG X cX0_wins 3 "QuiverKin" "wins" (21 + fR) (420 + lR) 35 [(0, va_rf a0), (2, .int v1)] [] g m5 := by
    intro m5 e
    rw [e] at h2
    have h := h2
    refine g_aload_n dX0_wins_35 0 rfl ?_
    refine gf_r zfd_0_20 q259  (fun _ h9 => h9) dX0_wins_36 h (fun r11 h => ?_)
    refine g_iload_n dX0_wins_39 1 rfl ?_
    refine g_bald dX0_wins_40 h (fun v12 h => ?_)
    refine g_iconst (v := (2 : Int32)) dX0_wins_41 (by decide) ?_
    refine g_icmp_ne 49 dX0_wins_42 (by decide) (fun c => ?_) (fun c => ?_)
    · have h := zite_n h c
      refine g_iconst (v := (0 : Int32)) dX0_wins_49 (by decide) ?_
      refine g_zret dX0_wins_50 hxt rfl ?_
      have e := Option.some.inj h
      exact Kret _ _ e
    · have h := zite_p h c
      refine g_iconst (v := (1 : Int32)) dX0_wins_45 (by decide) ?_
      refine g_goto 50 dX0_wins_46 (by decide) ?_
      refine g_zret dX0_wins_50 hxt rfl ?_
      have e := Option.some.inj h
      exact Kret _ _ e
  have h := h1
  refine g_if_ne 35 dX0_wins_11 (by decide) (fun c => ?_) (fun c => ?_)
  · have h := zite_n h c
    refine zG.sub [1, 0] rfl ?_
    have e := Option.some.inj h
    exact K4 _ e.symm
  · have h := zite_p h c
    refine g_aload_n dX0_wins_14 1 rfl ?_
    refine gf_r zfd_0_20 q259  (fun _ h9 => h9) dX0_wins_15 h (fun r6 h => ?_)
    refine g_iload_n dX0_wins_18 0 rfl ?_
    refine g_aload_n dX0_wins_19 1 rfl ?_
    refine g_iload_n dX0_wins_20 2 rfl ?_
    refine g_cVMv (rv := fun x : Int32 => Value.int x) [.int a1] (fun x0 m0 e0 => hrec2 g m a0 a1 x0 m0 e0) zc0 (by decide) (lw_V q1347 q1349 qs52 q123 q1350) rfl hy_X0_biteOf rfl ⟨by omega, by omega⟩ rfl (zc_i (zc_r zc_0)) (by decide) dX0_wins_21 h (fun v7 m8 h => ?_)
    refine g_iconst (v := (-1 : Int32)) dX0_wins_24 (by decide) ?_
    refine g_icmp_ne 32 dX0_wins_25 (by decide) (fun c => ?_) (fun c => ?_)
    · have h := zite_n h c
      refine g_iconst (v := (2 : Int32)) dX0_wins_32 (by decide) ?_
      refine g_i2b dX0_wins_33 ?_
      refine g_bast dX0_wins_34 h (fun m9 h => ?_)
      refine zG.sub [1, 0] rfl ?_
      have e := Option.some.inj h
      exact K4 _ e.symm
    · have h := zite_p h c
      refine g_iconst (v := (1 : Int32)) dX0_wins_28 (by decide) ?_
      refine g_goto 33 dX0_wins_29 (by decide) ?_
      refine g_i2b dX0_wins_33 ?_
      refine g_bast dX0_wins_34 h (fun m10 h => ?_)
      refine zG.sub [1, 0] rfl ?_
      have e := Option.some.inj h
      exact K4 _ e.symm
def b_X0_biteOf_9 (g : zGd) (rec : (zGd → zMm → Option Nat → Int32 → Option (Int32 × zMm)) × (zGd → zMm → Option Nat → Int32 → Option (Int32 × zMm))) (a0 : Option Nat) (a1 : Int32) (v4 : Int32) : Int32 × zMm → Option ((((((((Int32 × zMm) ⊕ (zMm))) ⊕ (Int32 × zMm))) ⊕ (zMm))) ⊕ (Int32 × zMm)) := fun (v9, m10) =>
(f_X0_wideOf a1 v4).bind fun v11 =>
if v11 ≤ v9 then (some (.inl (.inr m10)))
else (if (v4 + v9) ≤ 0 then (zlt (v9 + (1 : Int32)) fun v12 =>
some (.inr (v12, m10)))
else ((f_X0_bitten a1 v4 v9).bind fun v13 =>
(zrc g 0 a0 (rec.1 g m10 a0 v13)).bind fun (v14, m15) =>
if v14 = 0 then (some (.inl (.inl (.inl (.inl (((((10 : Int32) * v4) + v9), m15)))))))
else (zlt (v9 + (1 : Int32)) fun v16 =>
some (.inr (v16, m15)))))
def b_X0_biteOf_2 (g : zGd) (rec : (zGd → zMm → Option Nat → Int32 → Option (Int32 × zMm)) × (zGd → zMm → Option Nat → Int32 → Option (Int32 × zMm))) (a0 : Option Nat) (a1 : Int32) : Int32 × zMm → Option ((((Int32 × zMm) ⊕ (zMm))) ⊕ (Int32 × zMm)) := fun (v4, m5) =>
if (5 : Int32) ≤ v4 then (some (.inl (.inr m5)))
else (zEx (σ := zMm) (zLoop (b_X0_biteOf_9 g rec a0 a1 v4) zFuel ((0 : Int32), m5)) fun m7 =>
zlt (v4 + (1 : Int32)) fun v17 =>
some (.inr (v17, m7)))
def q_X0_biteOf (rec : (zGd → zMm → Option Nat → Int32 → Option (Int32 × zMm)) × (zGd → zMm → Option Nat → Int32 → Option (Int32 × zMm))) (g : zGd) (m : zMm) (a0 : Option Nat) (a1 : Int32) : Option (Int32 × zMm) :=
zEx (σ := zMm) (zLoop (b_X0_biteOf_2 g rec a0 a1) zFuel ((0 : Int32), m)) fun m2 =>
some (((-1 : Int32), m2))
set_option maxHeartbeats 4000000 in
theorem qk_X0_biteOf (l : Launch) (g : zGd) (m : zMm) (fR lR : Nat) (rec : (zGd → zMm → Option Nat → Int32 → Option (Int32 × zMm)) × (zGd → zMm → Option Nat → Int32 → Option (Int32 × zMm))) (hrec1 : ∀ (g : zGd) (m : zMm) (a0 : Option Nat) (a1 : Int32) (z0 : Int32) (m0 : zMm), rec.1 g m a0 a1 = some (z0, m0) → zCT l yX0_wins cX0_wins 3 (some .boolean) fR lR g m [va_rf a0, .int a1] (some (.int z0)) g m0) (hrec2 : ∀ (g : zGd) (m : zMm) (a0 : Option Nat) (a1 : Int32) (z0 : Int32) (m0 : zMm), rec.2 g m a0 a1 = some (z0, m0) → zCT l yX0_biteOf cX0_biteOf 4 (some .int) fR lR g m [va_rf a0, .int a1] (some (.int z0)) g m0) (a0 : Option Nat) (a1 : Int32) (z0 : Int32) (m0 : zMm) (h : q_X0_biteOf rec g m a0 a1 = some (z0, m0)) : zCT l yX0_biteOf cX0_biteOf 4 (some .int) (21 + fR) (420 + lR) g m [va_rf a0, .int a1] (some (.int z0)) g m0 := by
  refine zCT.of (own := "QuiverKin") (mn := "biteOf") (by decide +kernel) rfl rfl (zla_r (zla_i zla_0)) (zls_r (zls_i zls_0)) (by decide) (fun X hxl hxg hxf hxt hxr hxn => ?_)
  have Kret : ∀ (y0 : Int32) (y1 : zMm), (y0, y1) = (z0, m0) → zRe X g y1 (some (.int y0)) := by
    intro y0 y1 e; cases e; exact ⟨hxf, hxr, hxn⟩
  subst hxl
  show zG X cX0_biteOf 4 "QuiverKin" "biteOf" (21 + fR) (420 + lR) 0 [(0, va_rf a0), (1, .int a1)] [] g m
  unfold q_X0_biteOf at h
  refine g_iconst (v := (0 : Int32)) dX0_biteOf_0 (by decide) ?_
  refine g_istore_n [(2, .int (0 : Int32)), (0, va_rf a0), (1, .int a1)] dX0_biteOf_1 (by decide) (zf_r (zf_i zf_0)) rfl ?_
  obtain ⟨o1, h1, hl1, hr1⟩ := zEx_e h
  have K1 : ∀ (m2 : zMm), o1 = .inr m2 → zG X cX0_biteOf 4 "QuiverKin" "biteOf" (21 + fR) (420 + lR) 56 [] [] g m2 := by
    intro m2 e
    have h := hr1 _ e
    refine g_iconst (v := (-1 : Int32)) dX0_biteOf_56 (by decide) ?_
    refine g_iret dX0_biteOf_57 hxt ?_
    have e := Option.some.inj h
    exact Kret _ _ e
  refine zG.sub [1, 2, 0] rfl ?_
  refine zLoop_ok (Φ := (fun (q : Int32 × zMm) => match q with | (v4, m5) => zG X cX0_biteOf 4 "QuiverKin" "biteOf" (21 + fR) (420 + lR) 2 [(0, va_rf a0), (1, .int a1), (2, .int v4)] [] g m5)) o1 ?_ zFuel _ h1
  rintro ⟨v4, m5⟩ x3 h hl3 hr3
  unfold b_X0_biteOf_2 at h
  have K3 : ∀ (v4 : Int32) (m5 : zMm), x3 = .inr (v4, m5) → zG X cX0_biteOf 4 "QuiverKin" "biteOf" (21 + fR) (420 + lR) 2 [(0, va_rf a0), (1, .int a1), (2, .int v4)] [] g m5 := by
    intro v4 m5 e
    exact hr3 _ e
  show zG X cX0_biteOf 4 "QuiverKin" "biteOf" (21 + fR) (420 + lR) 2 [(0, va_rf a0), (1, .int a1), (2, .int v4)] [] g m5
  refine g_iload_n dX0_biteOf_2 2 rfl ?_
  refine g_iconst (v := (5 : Int32)) dX0_biteOf_3 (by decide) ?_
  refine g_icmp_ge 56 dX0_biteOf_4 (by decide) (fun c => ?_) (fun c => ?_)
  · have h := zite_p h c
    refine zG.sub [] rfl ?_
    have e := Option.some.inj h
    have e := hl3 _ e.symm
    exact K1 _ e.symm
  · have h := zite_n h c
    refine g_iconst (v := (0 : Int32)) dX0_biteOf_7 (by decide) ?_
    refine g_istore_n [(3, .int (0 : Int32)), (0, va_rf a0), (1, .int a1), (2, .int v4)] dX0_biteOf_8 (by decide) (zf_r (zf_i (zf_i zf_0))) rfl ?_
    obtain ⟨o6, h1, hl6, hr6⟩ := zEx_e h
    have K6 : ∀ (m7 : zMm), o6 = .inr m7 → zG X cX0_biteOf 4 "QuiverKin" "biteOf" (21 + fR) (420 + lR) 50 [(0, va_rf a0), (1, .int a1), (2, .int v4)] [] g m7 := by
      intro m7 e
      have h := hr6 _ e
      refine g_iinc (v := (1 : Int32)) [(0, va_rf a0), (1, .int a1)] dX0_biteOf_50 2 rfl (by decide) (by decide) (zf_r (zf_i (zf_i zf_0))) rfl h (fun v17 h => ?_)
      refine g_goto 2 dX0_biteOf_53 (by decide) ?_
      refine zG.sub [1, 2, 0] rfl ?_
      have e := Option.some.inj h
      exact K3 _ _ e.symm
    refine zG.sub [1, 2, 3, 0] rfl ?_
    refine zLoop_ok (Φ := (fun (q : Int32 × zMm) => match q with | (v9, m10) => zG X cX0_biteOf 4 "QuiverKin" "biteOf" (21 + fR) (420 + lR) 9 [(0, va_rf a0), (1, .int a1), (2, .int v4), (3, .int v9)] [] g m10)) o6 ?_ zFuel _ h1
    rintro ⟨v9, m10⟩ x8 h hl8 hr8
    unfold b_X0_biteOf_9 at h
    have K8 : ∀ (v9 : Int32) (m10 : zMm), x8 = .inr (v9, m10) → zG X cX0_biteOf 4 "QuiverKin" "biteOf" (21 + fR) (420 + lR) 9 [(0, va_rf a0), (1, .int a1), (2, .int v4), (3, .int v9)] [] g m10 := by
      intro v9 m10 e
      exact hr8 _ e
    show zG X cX0_biteOf 4 "QuiverKin" "biteOf" (21 + fR) (420 + lR) 9 [(0, va_rf a0), (1, .int a1), (2, .int v4), (3, .int v9)] [] g m10
    refine g_iload_n dX0_biteOf_9 3 rfl ?_
    refine g_iload_n dX0_biteOf_10 1 rfl ?_
    refine g_iload_n dX0_biteOf_11 2 rfl ?_
    refine g_cSRv (rv := fun x : Int32 => Value.int x) [.int a1, .int v4] (fun x0 e0 => ok_X0_wideOf (xl X) g m10 a1 v4 x0 e0) (lw_S q1351 q1352 q123 q1353) hy_X0_wideOf rfl ⟨by omega, by omega⟩ rfl (zc_i zc_0) (by decide) dX0_biteOf_12 h (fun v11 h => ?_)
    refine g_icmp_ge 50 dX0_biteOf_15 (by decide) (fun c => ?_) (fun c => ?_)
    · have h := zite_p h c
      refine zG.sub [0, 1, 2] rfl ?_
      have e := Option.some.inj h
      have e := hl8 _ e.symm
      exact K6 _ e.symm
    · have h := zite_n h c
      refine g_iload_n dX0_biteOf_18 2 rfl ?_
      refine g_iload_n dX0_biteOf_19 3 rfl ?_
      refine g_iadd dX0_biteOf_20 ?_
      refine g_if_le 44 dX0_biteOf_21 (by decide) (fun c => ?_) (fun c => ?_)
      · have h := zite_p h c
        refine g_iinc (v := (1 : Int32)) [(0, va_rf a0), (1, .int a1), (2, .int v4)] dX0_biteOf_44 3 rfl (by decide) (by decide) (zf_r (zf_i (zf_i (zf_i zf_0)))) rfl h (fun v12 h => ?_)
        refine g_goto 9 dX0_biteOf_47 (by decide) ?_
        refine zG.sub [1, 2, 3, 0] rfl ?_
        have e := Option.some.inj h
        exact K8 _ _ e.symm
      · have h := zite_n h c
        refine g_aload_n dX0_biteOf_24 0 rfl ?_
        refine g_iload_n dX0_biteOf_25 1 rfl ?_
        refine g_iload_n dX0_biteOf_26 2 rfl ?_
        refine g_iload_n dX0_biteOf_27 3 rfl ?_
        refine g_cSRv (rv := fun x : Int32 => Value.int x) [.int a1, .int v4, .int v9] (fun x0 e0 => ok_X0_bitten (xl X) g m10 a1 v4 v9 x0 e0) (lw_S q1354 q1355 q123 q1356) hy_X0_bitten rfl ⟨by omega, by omega⟩ rfl (zc_r zc_0) (by decide) dX0_biteOf_28 h (fun v13 h => ?_)
        refine g_cVMv (rv := fun x : Int32 => Value.int x) [.int v13] (fun x0 m0 e0 => hrec1 g m10 a0 v13 x0 m0 e0) zc0 (by decide) (lw_V q1340 q1342 qs51 q123 q1343) rfl hy_X0_wins rfl ⟨by omega, by omega⟩ rfl zc_0 (by decide) dX0_biteOf_31 h (fun v14 m15 h => ?_)
        refine g_if_ne 44 dX0_biteOf_34 (by decide) (fun c => ?_) (fun c => ?_)
        · have h := zite_n h c
          refine g_iinc (v := (1 : Int32)) [(0, va_rf a0), (1, .int a1), (2, .int v4)] dX0_biteOf_44 3 rfl (by decide) (by decide) (zf_r (zf_i (zf_i (zf_i zf_0)))) rfl h (fun v16 h => ?_)
          refine g_goto 9 dX0_biteOf_47 (by decide) ?_
          refine zG.sub [1, 2, 3, 0] rfl ?_
          have e := Option.some.inj h
          exact K8 _ _ e.symm
        · have h := zite_p h c
          refine g_bipush (v := (10 : Int32)) dX0_biteOf_37 (by decide) ?_
          refine g_iload_n dX0_biteOf_39 2 rfl ?_
          refine g_imul dX0_biteOf_40 ?_
          refine g_iload_n dX0_biteOf_41 3 rfl ?_
          refine g_iadd dX0_biteOf_42 ?_
          refine g_iret dX0_biteOf_43 hxt ?_
          have e := Option.some.inj h
          have e := hl8 _ e.symm
          have e := hl6 _ e.symm
          have e := hl3 _ e.symm
          have e := hl1 _ e.symm
          exact Kret _ _ e
def r_wins : Nat → (zGd → zMm → Option Nat → Int32 → Option (Int32 × zMm)) × (zGd → zMm → Option Nat → Int32 → Option (Int32 × zMm))
  | 0 => (fun _ _ _ _ => none, fun _ _ _ _ => none)
  | d + 1 => (q_X0_wins (r_wins d), q_X0_biteOf (r_wins d))
theorem okr_wins (l : Launch) : ∀ d : Nat, (∀ (g : zGd) (m : zMm) (a0 : Option Nat) (a1 : Int32) (z0 : Int32) (m0 : zMm), (r_wins d).1 g m a0 a1 = some (z0, m0) → zCT l yX0_wins cX0_wins 3 (some .boolean) (21 * d) (420 * d) g m [va_rf a0, .int a1] (some (.int z0)) g m0) ∧ (∀ (g : zGd) (m : zMm) (a0 : Option Nat) (a1 : Int32) (z0 : Int32) (m0 : zMm), (r_wins d).2 g m a0 a1 = some (z0, m0) → zCT l yX0_biteOf cX0_biteOf 4 (some .int) (21 * d) (420 * d) g m [va_rf a0, .int a1] (some (.int z0)) g m0)
  | 0 => ⟨(fun g m a0 a1 z0 m0 h => by cases h), (fun g m a0 a1 z0 m0 h => by cases h)⟩
  | d + 1 => by
    have ih := okr_wins l d
    exact ⟨(fun g m a0 a1 z0 m0 h => by rw [Nat.mul_succ, Nat.mul_succ, Nat.add_comm (21 * d), Nat.add_comm (420 * d)]; exact qk_X0_wins l g m _ _ (r_wins d) ih.1 ih.2 a0 a1 z0 m0 h), (fun g m a0 a1 z0 m0 h => by rw [Nat.mul_succ, Nat.mul_succ, Nat.add_comm (21 * d), Nat.add_comm (420 * d)]; exact qk_X0_biteOf l g m _ _ (r_wins d) ih.1 ih.2 a0 a1 z0 m0 h)⟩
def f_X0_wins (g : zGd) (m : zMm) (a0 : Option Nat) (a1 : Int32) : Option (Int32 × zMm) := (r_wins 70).1 g m a0 a1
theorem ok_X0_wins (l : Launch) (g : zGd) (m : zMm) (a0 : Option Nat) (a1 : Int32) (z0 : Int32) (m0 : zMm) (h : f_X0_wins g m a0 a1 = some (z0, m0)) : zCT l yX0_wins cX0_wins 3 (some .boolean) 1470 29400 g m [va_rf a0, .int a1] (some (.int z0)) g m0 := (okr_wins l 70).1 g m a0 a1 z0 m0 h
def f_X0_biteOf (g : zGd) (m : zMm) (a0 : Option Nat) (a1 : Int32) : Option (Int32 × zMm) := (r_wins 70).2 g m a0 a1
theorem ok_X0_biteOf (l : Launch) (g : zGd) (m : zMm) (a0 : Option Nat) (a1 : Int32) (z0 : Int32) (m0 : zMm) (h : f_X0_biteOf g m a0 a1 = some (z0, m0)) : zCT l yX0_biteOf cX0_biteOf 4 (some .int) 1470 29400 g m [va_rf a0, .int a1] (some (.int z0)) g m0 := (okr_wins l 70).2 g m a0 a1 z0 m0 h
/-! QuiverKin.game -/
def b_X0_game_25 (a1 : Int32) (a2 : Int32) : Int32 × Int32 → Option ((Int32) ⊕ (Int32 × Int32)) := fun (v6, v7) =>
if (5 : Int32) ≤ v7 then (some (.inl v6))
else (if a1 ≤ v7 then (zlt (((10 : Int32) * v6) + (0 : Int32)) fun v8 =>
zlt (v7 + (1 : Int32)) fun v9 =>
some (.inr (v8, v9)))
else (zlt (((10 : Int32) * v6) + a2) fun v10 =>
zlt (v7 + (1 : Int32)) fun v11 =>
some (.inr (v10, v11))))
def f_X0_game (g : zGd) (m : zMm) (a0 : Option Nat) (a1 : Int32) (a2 : Int32) : Option (Int32 × zMm) :=
(f_X0_in a1 (1 : Int32) (5 : Int32)).bind fun v1 =>
if v1 = 0 then (some (((-1 : Int32), m)))
else ((f_X0_in a2 (1 : Int32) (5 : Int32)).bind fun v2 =>
if v2 = 0 then (some (((-1 : Int32), m)))
else ((zLoop (b_X0_game_25 a1 a2) zFuel ((0 : Int32), (0 : Int32))).bind fun v4 =>
(zrc g 0 a0 (f_X0_wins g m a0 v4)).bind fun (v12, m13) =>
if v12 = 0 then (some (((0 : Int32), m13)))
else (some (((1 : Int32), m13)))))
theorem hy_X0_game : zHy yX0_game 2 := ⟨by decide, by decide, by decide +kernel⟩
set_option maxHeartbeats 4000000 in
theorem ok_X0_game (l : Launch) (g : zGd) (m : zMm) (a0 : Option Nat) (a1 : Int32) (a2 : Int32) (z0 : Int32) (m0 : zMm) (h : f_X0_game g m a0 a1 a2 = some (z0, m0)) : zCT l yX0_game cX0_game 5 (some .int) 1471 29422 g m [va_rf a0, .int a1, .int a2] (some (.int z0)) g m0 := by
  refine zCT.of (own := "QuiverKin") (mn := "game") (by decide +kernel) rfl rfl (zla_r (zla_i (zla_i zla_0))) (zls_r (zls_i (zls_i zls_0))) (by decide) (fun X hxl hxg hxf hxt hxr hxn => ?_)
  have Kret : ∀ (y0 : Int32) (y1 : zMm), (y0, y1) = (z0, m0) → zRe X g y1 (some (.int y0)) := by
    intro y0 y1 e; cases e; exact ⟨hxf, hxr, hxn⟩
  subst hxl
  show zG X cX0_game 5 "QuiverKin" "game" 1471 29422 0 [(0, va_rf a0), (1, .int a1), (2, .int a2)] [] g m
  unfold f_X0_game at h
  refine g_iload_n dX0_game_0 1 rfl ?_
  refine g_iconst (v := (1 : Int32)) dX0_game_1 (by decide) ?_
  refine g_iconst (v := (5 : Int32)) dX0_game_2 (by decide) ?_
  refine g_cSRv (rv := fun x : Int32 => Value.int x) [.int a1, .int (1 : Int32), .int (5 : Int32)] (fun x0 e0 => ok_X0_in (xl X) g m a1 (1 : Int32) (5 : Int32) x0 e0) (lw_S q312 q313 q123 q314) hy_X0_in rfl ⟨by decide, by decide⟩ rfl zc_0 (by decide) dX0_game_3 h (fun v1 h => ?_)
  refine g_if_eq 18 dX0_game_6 (by decide) (fun c => ?_) (fun c => ?_)
  · have h := zite_p h c
    refine g_iconst (v := (-1 : Int32)) dX0_game_18 (by decide) ?_
    refine g_iret dX0_game_19 hxt ?_
    have e := Option.some.inj h
    exact Kret _ _ e
  · have h := zite_n h c
    refine g_iload_n dX0_game_9 2 rfl ?_
    refine g_iconst (v := (1 : Int32)) dX0_game_10 (by decide) ?_
    refine g_iconst (v := (5 : Int32)) dX0_game_11 (by decide) ?_
    refine g_cSRv (rv := fun x : Int32 => Value.int x) [.int a2, .int (1 : Int32), .int (5 : Int32)] (fun x0 e0 => ok_X0_in (xl X) g m a2 (1 : Int32) (5 : Int32) x0 e0) (lw_S q312 q313 q123 q314) hy_X0_in rfl ⟨by decide, by decide⟩ rfl zc_0 (by decide) dX0_game_12 h (fun v2 h => ?_)
    refine g_if_ne 20 dX0_game_15 (by decide) (fun c => ?_) (fun c => ?_)
    · have h := zite_n h c
      refine g_iconst (v := (0 : Int32)) dX0_game_20 (by decide) ?_
      refine g_istore_n [(3, .int (0 : Int32)), (0, va_rf a0), (1, .int a1), (2, .int a2)] dX0_game_21 (by decide) (zf_r (zf_i (zf_i zf_0))) rfl ?_
      refine g_iconst (v := (0 : Int32)) dX0_game_22 (by decide) ?_
      refine g_istore [(4, .int (0 : Int32)), (3, .int (0 : Int32)), (0, va_rf a0), (1, .int a1), (2, .int a2)] dX0_game_23 (by decide) (zf_i (zf_r (zf_i (zf_i zf_0)))) rfl ?_
      obtain ⟨o3, h1, h2⟩ := zB_e h
      have K3 : ∀ (v4 : Int32), o3 = v4 → zG X cX0_game 5 "QuiverKin" "game" 1471 29422 54 [(0, va_rf a0), (3, .int v4)] [] g m := by
        intro v4 e
        rw [e] at h2
        have h := h2
        refine g_aload_n dX0_game_54 0 rfl ?_
        refine g_iload_n dX0_game_55 1 rfl ?_
        refine g_cVMv (rv := fun x : Int32 => Value.int x) [.int v4] (fun x0 m0 e0 => ok_X0_wins (xl X) g m a0 v4 x0 m0 e0) zc0 (by decide) (lw_V q1340 q1342 qs51 q123 q1343) rfl hy_X0_wins rfl ⟨by decide, by decide⟩ rfl zc_0 (by decide) dX0_game_56 h (fun v12 m13 h => ?_)
        refine g_if_eq 66 dX0_game_59 (by decide) (fun c => ?_) (fun c => ?_)
        · have h := zite_p h c
          refine g_iconst (v := (0 : Int32)) dX0_game_66 (by decide) ?_
          refine g_iret dX0_game_67 hxt ?_
          have e := Option.some.inj h
          exact Kret _ _ e
        · have h := zite_n h c
          refine g_iconst (v := (1 : Int32)) dX0_game_62 (by decide) ?_
          refine g_goto 67 dX0_game_63 (by decide) ?_
          refine g_iret dX0_game_67 hxt ?_
          have e := Option.some.inj h
          exact Kret _ _ e
      refine zG.sub [2, 3, 4, 1, 0] rfl ?_
      refine zLoop_ok (Φ := (fun (q : Int32 × Int32) => match q with | (v6, v7) => zG X cX0_game 5 "QuiverKin" "game" 1471 29422 25 [(0, va_rf a0), (1, .int a1), (2, .int a2), (3, .int v6), (4, .int v7)] [] g m)) o3 ?_ zFuel _ h1
      rintro ⟨v6, v7⟩ x5 h hl5 hr5
      unfold b_X0_game_25 at h
      have K5 : ∀ (v6 : Int32) (v7 : Int32), x5 = .inr (v6, v7) → zG X cX0_game 5 "QuiverKin" "game" 1471 29422 25 [(0, va_rf a0), (1, .int a1), (2, .int a2), (3, .int v6), (4, .int v7)] [] g m := by
        intro v6 v7 e
        exact hr5 _ e
      show zG X cX0_game 5 "QuiverKin" "game" 1471 29422 25 [(0, va_rf a0), (1, .int a1), (2, .int a2), (3, .int v6), (4, .int v7)] [] g m
      refine g_iload dX0_game_25 4 rfl ?_
      refine g_iconst (v := (5 : Int32)) dX0_game_27 (by decide) ?_
      refine g_icmp_ge 54 dX0_game_28 (by decide) (fun c => ?_) (fun c => ?_)
      · have h := zite_p h c
        refine zG.sub [0, 3] rfl ?_
        have e := Option.some.inj h
        have e := hl5 _ e.symm
        exact K3 _ e.symm
      · have h := zite_n h c
        refine g_bipush (v := (10 : Int32)) dX0_game_31 (by decide) ?_
        refine g_iload_n dX0_game_33 3 rfl ?_
        refine g_imul dX0_game_34 ?_
        refine g_iload dX0_game_35 4 rfl ?_
        refine g_iload_n dX0_game_37 1 rfl ?_
        refine g_icmp_ge 45 dX0_game_38 (by decide) (fun c => ?_) (fun c => ?_)
        · have h := zite_p h c
          refine g_iconst (v := (0 : Int32)) dX0_game_45 (by decide) ?_
          refine g_iadd dX0_game_46 ?_
          refine g_leti h (fun v8 h => ?_)
          refine g_istore_n [(3, .int v8), (0, va_rf a0), (1, .int a1), (2, .int a2), (4, .int v7)] dX0_game_47 (by decide) (zf_r (zf_i (zf_i (zf_i (zf_i zf_0))))) rfl ?_
          refine g_iinc (v := (1 : Int32)) [(3, .int v8), (0, va_rf a0), (1, .int a1), (2, .int a2)] dX0_game_48 4 rfl (by decide) (by decide) (zf_i (zf_r (zf_i (zf_i (zf_i zf_0))))) rfl h (fun v9 h => ?_)
          refine g_goto 25 dX0_game_51 (by decide) ?_
          refine zG.sub [2, 3, 4, 1, 0] rfl ?_
          have e := Option.some.inj h
          exact K5 _ _ e.symm
        · have h := zite_n h c
          refine g_iload_n dX0_game_41 2 rfl ?_
          refine g_goto 46 dX0_game_42 (by decide) ?_
          refine g_iadd dX0_game_46 ?_
          refine g_leti h (fun v10 h => ?_)
          refine g_istore_n [(3, .int v10), (0, va_rf a0), (1, .int a1), (2, .int a2), (4, .int v7)] dX0_game_47 (by decide) (zf_r (zf_i (zf_i (zf_i (zf_i zf_0))))) rfl ?_
          refine g_iinc (v := (1 : Int32)) [(3, .int v10), (0, va_rf a0), (1, .int a1), (2, .int a2)] dX0_game_48 4 rfl (by decide) (by decide) (zf_i (zf_r (zf_i (zf_i (zf_i zf_0))))) rfl h (fun v11 h => ?_)
          refine g_goto 25 dX0_game_51 (by decide) ?_
          refine zG.sub [2, 3, 4, 1, 0] rfl ?_
          have e := Option.some.inj h
          exact K5 _ _ e.symm
    · have h := zite_p h c
      refine g_iconst (v := (-1 : Int32)) dX0_game_18 (by decide) ?_
      refine g_iret dX0_game_19 hxt ?_
      have e := Option.some.inj h
      exact Kret _ _ e
/-! QuiverKin.isShape -/
def b_X0_isShape_19 (a0 : Int32) : Int32 × Int32 → Option ((((Int32) ⊕ (Unit))) ⊕ (Int32 × Int32)) := fun (v4, v5) =>
if (5 : Int32) ≤ v5 then (some (.inl (.inr ())))
else ((f_X0_wideOf a0 v5).bind fun v6 =>
if v6 ≤ v4 then ((f_X0_wideOf a0 v5).bind fun v7 =>
zlt (v5 + (1 : Int32)) fun v8 =>
some (.inr (v7, v8)))
else (some (.inl (.inl ((0 : Int32))))))
def f_X0_isShape (a0 : Int32) : Option (Int32) :=
(f_X0_in a0 (10000 : Int32) (55555 : Int32)).bind fun v1 =>
if v1 = 0 then (some ((0 : Int32)))
else (zEx (σ := Unit) (zLoop (b_X0_isShape_19 a0) zFuel ((5 : Int32), (0 : Int32))) fun _ =>
some ((1 : Int32)))
theorem hy_X0_isShape : zHy yX0_isShape 1 := ⟨by decide, by decide, by decide +kernel⟩
set_option maxHeartbeats 4000000 in
theorem ok_X0_isShape (l : Launch) (g : zGd) (m : zMm) (a0 : Int32) (z0 : Int32) (h : f_X0_isShape a0 = some z0) : zCT l yX0_isShape cX0_isShape 3 (some .boolean) 2 43 g m [.int a0] (some (.int z0)) g m := by
  refine zCT.of (own := "QuiverKin") (mn := "isShape") (by decide +kernel) rfl rfl (zla_i zla_0) (zls_i zls_0) (by decide) (fun X hxl hxg hxf hxt hxr hxn => ?_)
  have Kret : ∀ (y0 : Int32), y0 = z0 → zRe X g m (some (.int y0)) := by
    intro y0 e; cases e; exact ⟨hxf, hxr, hxn⟩
  subst hxl
  show zG X cX0_isShape 3 "QuiverKin" "isShape" 2 43 0 [(0, .int a0)] [] g m
  unfold f_X0_isShape at h
  refine g_iload_n dX0_isShape_0 0 rfl ?_
  refine g_sipush (v := (10000 : Int32)) dX0_isShape_1 (by decide) ?_
  refine g_ldcw (v := (55555 : Int32)) q1364 dX0_isShape_4 ?_
  refine g_cSRv (rv := fun x : Int32 => Value.int x) [.int a0, .int (10000 : Int32), .int (55555 : Int32)] (fun x0 e0 => ok_X0_in (xl X) g m a0 (10000 : Int32) (55555 : Int32) x0 e0) (lw_S q312 q313 q123 q314) hy_X0_in rfl ⟨by decide, by decide⟩ rfl zc_0 (by decide) dX0_isShape_7 h (fun v1 h => ?_)
  refine g_if_ne 15 dX0_isShape_10 (by decide) (fun c => ?_) (fun c => ?_)
  · have h := zite_n h c
    refine g_iconst (v := (5 : Int32)) dX0_isShape_15 (by decide) ?_
    refine g_istore_n [(1, .int (5 : Int32)), (0, .int a0)] dX0_isShape_16 (by decide) (zf_i zf_0) rfl ?_
    refine g_iconst (v := (0 : Int32)) dX0_isShape_17 (by decide) ?_
    refine g_istore_n [(2, .int (0 : Int32)), (1, .int (5 : Int32)), (0, .int a0)] dX0_isShape_18 (by decide) (zf_i (zf_i zf_0)) rfl ?_
    obtain ⟨o2, h1, hl2, hr2⟩ := zEx_e h
    have K2 : o2 = .inr () → zG X cX0_isShape 3 "QuiverKin" "isShape" 2 43 47 [] [] g m := by
      intro e
      have h := hr2 _ e
      refine g_iconst (v := (1 : Int32)) dX0_isShape_47 (by decide) ?_
      refine g_zret dX0_isShape_48 hxt rfl ?_
      have e := Option.some.inj h
      exact Kret _ e
    refine zG.sub [2, 1, 0] rfl ?_
    refine zLoop_ok (Φ := (fun (q : Int32 × Int32) => match q with | (v4, v5) => zG X cX0_isShape 3 "QuiverKin" "isShape" 2 43 19 [(0, .int a0), (1, .int v4), (2, .int v5)] [] g m)) o2 ?_ zFuel _ h1
    rintro ⟨v4, v5⟩ x3 h hl3 hr3
    unfold b_X0_isShape_19 at h
    have K3 : ∀ (v4 : Int32) (v5 : Int32), x3 = .inr (v4, v5) → zG X cX0_isShape 3 "QuiverKin" "isShape" 2 43 19 [(0, .int a0), (1, .int v4), (2, .int v5)] [] g m := by
      intro v4 v5 e
      exact hr3 _ e
    show zG X cX0_isShape 3 "QuiverKin" "isShape" 2 43 19 [(0, .int a0), (1, .int v4), (2, .int v5)] [] g m
    refine g_iload_n dX0_isShape_19 2 rfl ?_
    refine g_iconst (v := (5 : Int32)) dX0_isShape_20 (by decide) ?_
    refine g_icmp_ge 47 dX0_isShape_21 (by decide) (fun c => ?_) (fun c => ?_)
    · have h := zite_p h c
      refine zG.sub [] rfl ?_
      have e := Option.some.inj h
      have e := hl3 _ e.symm
      exact K2 e.symm
    · have h := zite_n h c
      refine g_iload_n dX0_isShape_24 0 rfl ?_
      refine g_iload_n dX0_isShape_25 2 rfl ?_
      refine g_cSRv (rv := fun x : Int32 => Value.int x) [.int a0, .int v5] (fun x0 e0 => ok_X0_wideOf (xl X) g m a0 v5 x0 e0) (lw_S q1351 q1352 q123 q1353) hy_X0_wideOf rfl ⟨by decide, by decide⟩ rfl zc_0 (by decide) dX0_isShape_26 h (fun v6 h => ?_)
      refine g_iload_n dX0_isShape_29 1 rfl ?_
      refine g_icmp_le 35 dX0_isShape_30 (by decide) (fun c => ?_) (fun c => ?_)
      · have h := zite_p h c
        refine g_iload_n dX0_isShape_35 0 rfl ?_
        refine g_iload_n dX0_isShape_36 2 rfl ?_
        refine g_cSRv (rv := fun x : Int32 => Value.int x) [.int a0, .int v5] (fun x0 e0 => ok_X0_wideOf (xl X) g m a0 v5 x0 e0) (lw_S q1351 q1352 q123 q1353) hy_X0_wideOf rfl ⟨by decide, by decide⟩ rfl zc_0 (by decide) dX0_isShape_37 h (fun v7 h => ?_)
        refine g_istore_n [(1, .int v7), (0, .int a0), (2, .int v5)] dX0_isShape_40 (by decide) (zf_i (zf_i (zf_i zf_0))) rfl ?_
        refine g_iinc (v := (1 : Int32)) [(1, .int v7), (0, .int a0)] dX0_isShape_41 2 rfl (by decide) (by decide) (zf_i (zf_i (zf_i zf_0))) rfl h (fun v8 h => ?_)
        refine g_goto 19 dX0_isShape_44 (by decide) ?_
        refine zG.sub [2, 1, 0] rfl ?_
        have e := Option.some.inj h
        exact K3 _ _ e.symm
      · have h := zite_n h c
        refine g_iconst (v := (0 : Int32)) dX0_isShape_33 (by decide) ?_
        refine g_zret dX0_isShape_34 hxt rfl ?_
        have e := Option.some.inj h
        have e := hl3 _ e.symm
        have e := hl2 _ e.symm
        exact Kret _ e
  · have h := zite_p h c
    refine g_iconst (v := (0 : Int32)) dX0_isShape_13 (by decide) ?_
    refine g_zret dX0_isShape_14 hxt rfl ?_
    have e := Option.some.inj h
    exact Kret _ e
/-! QuiverKin.bite -/
def f_X0_bite (g : zGd) (m : zMm) (a0 : Option Nat) (a1 : Int32) (a2 : Int32) : Option (Int32 × zMm) :=
(f_X0_isShape a1).bind fun v1 =>
((if v1 = 0 then (some (((-1 : Int32), m)))
else ((zrc g 0 a0 (f_X0_biteOf g m a0 a1)).bind fun (v5, m6) =>
some ((v5, m6))) : Option (Int32 × zMm))).bind fun (v3, m4) =>
if v3 = (-1 : Int32) then (some (((-1 : Int32), m4)))
else (if a2 = 0 then (some (((zrem v3 (10 : Int32)), m4)))
else (some (((v3 / (10 : Int32)), m4))))
theorem hy_X0_bite : zHy yX0_bite 2 := ⟨by decide, by decide, by decide +kernel⟩
set_option maxHeartbeats 4000000 in
theorem ok_X0_bite (l : Launch) (g : zGd) (m : zMm) (a0 : Option Nat) (a1 : Int32) (a2 : Int32) (z0 : Int32) (m0 : zMm) (h : f_X0_bite g m a0 a1 a2 = some (z0, m0)) : zCT l yX0_bite cX0_bite 4 (some .int) 1471 29423 g m [va_rf a0, .int a1, .int a2] (some (.int z0)) g m0 := by
  refine zCT.of (own := "QuiverKin") (mn := "bite") (by decide +kernel) rfl rfl (zla_r (zla_i (zla_i zla_0))) (zls_r (zls_i (zls_i zls_0))) (by decide) (fun X hxl hxg hxf hxt hxr hxn => ?_)
  have Kret : ∀ (y0 : Int32) (y1 : zMm), (y0, y1) = (z0, m0) → zRe X g y1 (some (.int y0)) := by
    intro y0 y1 e; cases e; exact ⟨hxf, hxr, hxn⟩
  subst hxl
  show zG X cX0_bite 4 "QuiverKin" "bite" 1471 29423 0 [(0, va_rf a0), (1, .int a1), (2, .int a2)] [] g m
  unfold f_X0_bite at h
  refine g_iload_n dX0_bite_0 1 rfl ?_
  refine g_cSRv (rv := fun x : Int32 => Value.int x) [.int a1] (fun x0 e0 => ok_X0_isShape (xl X) g m a1 x0 e0) (lw_S q1361 q1362 q123 q1363) hy_X0_isShape rfl ⟨by decide, by decide⟩ rfl zc_0 (by decide) dX0_bite_1 h (fun v1 h => ?_)
  obtain ⟨o2, h1, h2⟩ := zB_e h
  have K2 : ∀ (v3 : Int32) (m4 : zMm), o2 = (v3, m4) → zG X cX0_bite 4 "QuiverKin" "bite" 1471 29423 16 [(2, .int a2)] [.int v3] g m4 := by
    intro v3 m4 e
    rw [e] at h2
    have h := h2
    refine g_istore_n [(3, .int v3), (2, .int a2)] dX0_bite_16 (by decide) (zf_i zf_0) rfl ?_
    refine g_iload_n dX0_bite_17 0 rfl ?_
    refine g_iconst (v := (-1 : Int32)) dX0_bite_18 (by decide) ?_
    refine g_icmp_ne 26 dX0_bite_19 (by decide) (fun c => ?_) (fun c => ?_)
    · have h := zite_n h c
      refine g_iload_n dX0_bite_26 1 rfl ?_
      refine g_if_eq 37 dX0_bite_27 (by decide) (fun c => ?_) (fun c => ?_)
      · have h := zite_p h c
        refine g_iload_n dX0_bite_37 0 rfl ?_
        refine g_bipush (v := (10 : Int32)) dX0_bite_38 (by decide) ?_
        refine g_iremC dX0_bite_40 (by decide) ?_
        refine g_iret dX0_bite_41 hxt ?_
        have e := Option.some.inj h
        exact Kret _ _ e
      · have h := zite_n h c
        refine g_iload_n dX0_bite_30 0 rfl ?_
        refine g_bipush (v := (10 : Int32)) dX0_bite_31 (by decide) ?_
        refine g_idivC dX0_bite_33 (by decide) ?_
        refine g_goto 41 dX0_bite_34 (by decide) ?_
        refine g_iret dX0_bite_41 hxt ?_
        have e := Option.some.inj h
        exact Kret _ _ e
    · have h := zite_p h c
      refine g_iconst (v := (-1 : Int32)) dX0_bite_22 (by decide) ?_
      refine g_goto 41 dX0_bite_23 (by decide) ?_
      refine g_iret dX0_bite_41 hxt ?_
      have e := Option.some.inj h
      exact Kret _ _ e
  have h := h1
  refine g_if_eq 15 dX0_bite_4 (by decide) (fun c => ?_) (fun c => ?_)
  · have h := zite_p h c
    refine g_iconst (v := (-1 : Int32)) dX0_bite_15 (by decide) ?_
    refine zG.sub [2] rfl ?_
    have e := Option.some.inj h
    exact K2 _ _ e.symm
  · have h := zite_n h c
    refine g_aload_n dX0_bite_7 0 rfl ?_
    refine g_iload_n dX0_bite_8 1 rfl ?_
    refine g_cVMv (rv := fun x : Int32 => Value.int x) [.int a1] (fun x0 m0 e0 => ok_X0_biteOf (xl X) g m a0 a1 x0 m0 e0) zc0 (by decide) (lw_V q1347 q1349 qs52 q123 q1350) rfl hy_X0_biteOf rfl ⟨by decide, by decide⟩ rfl zc_0 (by decide) dX0_bite_9 h (fun v5 m6 h => ?_)
    refine g_goto 16 dX0_bite_12 (by decide) ?_
    refine zG.sub [2] rfl ?_
    have e := Option.some.inj h
    exact K2 _ _ e.symm
/-! QuiverKin.told -/
def f_X0_told (g : zGd) (m : zMm) (a0 : Option Nat) (a1 : Int32) (a2 : Int32) : Option (Int32 × zMm) :=
if a1 = (-1 : Int32) then ((zgr g m 0 0 a0).bind fun r11 =>
(zrc g 1 r11 (f_X1_clears g m r11 (6 : Int32))).bind fun (v12, m13) =>
some ((v12, m13)))
else ((zrc g 0 a0 (f_X0_isKin g m a0 a1)).bind fun v1 =>
if v1 = 0 then (some (((-2 : Int32), m)))
else ((f_X0_in a2 (0 : Int32) (10 : Int32)).bind fun v2 =>
if v2 = 0 then (some (((-2 : Int32), m)))
else ((zgr g m 0 0 a0).bind fun r3 =>
(zgr g m 1 0 r3).bind fun r4 =>
(zald 101 g m r4 (6 : Int32)).bind fun v5 =>
if (8 : Int32) ≤ v5 then (some (((-2 : Int32), m)))
else ((zgr g m 0 0 a0).bind fun r6 =>
(zgr g m 0 0 a0).bind fun r7 =>
(zgr g m 1 9 r7).bind fun r8 =>
(zrc g 1 r6 (f_X1_adds g m r6 r8 (6 : Int32) a1 a2)).bind fun (v9, m10) =>
some ((v9, m10))))))
theorem hy_X0_told : zHy yX0_told 2 := ⟨by decide, by decide, by decide +kernel⟩
set_option maxHeartbeats 4000000 in
theorem ok_X0_told (l : Launch) (g : zGd) (m : zMm) (a0 : Option Nat) (a1 : Int32) (a2 : Int32) (z0 : Int32) (m0 : zMm) (h : f_X0_told g m a0 a1 a2 = some (z0, m0)) : zCT l yX0_told cX0_told 3 (some .int) 3 63 g m [va_rf a0, .int a1, .int a2] (some (.int z0)) g m0 := by
  refine zCT.of (own := "QuiverKin") (mn := "told") (by decide +kernel) rfl rfl (zla_r (zla_i (zla_i zla_0))) (zls_r (zls_i (zls_i zls_0))) (by decide) (fun X hxl hxg hxf hxt hxr hxn => ?_)
  have Kret : ∀ (y0 : Int32) (y1 : zMm), (y0, y1) = (z0, m0) → zRe X g y1 (some (.int y0)) := by
    intro y0 y1 e; cases e; exact ⟨hxf, hxr, hxn⟩
  subst hxl
  show zG X cX0_told 3 "QuiverKin" "told" 3 63 0 [(0, va_rf a0), (1, .int a1), (2, .int a2)] [] g m
  unfold f_X0_told at h
  refine g_iload_n dX0_told_0 1 rfl ?_
  refine g_iconst (v := (-1 : Int32)) dX0_told_1 (by decide) ?_
  refine g_icmp_ne 15 dX0_told_2 (by decide) (fun c => ?_) (fun c => ?_)
  · have h := zite_n h c
    refine g_aload_n dX0_told_15 0 rfl ?_
    refine g_iload_n dX0_told_16 1 rfl ?_
    refine g_cVRv (rv := fun x : Int32 => Value.int x) [.int a1] (fun x0 e0 => ok_X0_isKin (xl X) g m a0 a1 x0 e0) zc0 (by decide) (lw_V q893 q895 qs25 q123 q896) rfl hy_X0_isKin rfl ⟨by decide, by decide⟩ rfl zc_0 (by decide) dX0_told_17 h (fun v1 h => ?_)
    refine g_if_eq 69 dX0_told_20 (by decide) (fun c => ?_) (fun c => ?_)
    · have h := zite_p h c
      refine g_bipush (v := (-2 : Int32)) dX0_told_69 (by decide) ?_
      refine g_iret dX0_told_71 hxt ?_
      have e := Option.some.inj h
      exact Kret _ _ e
    · have h := zite_n h c
      refine g_iload_n dX0_told_23 2 rfl ?_
      refine g_iconst (v := (0 : Int32)) dX0_told_24 (by decide) ?_
      refine g_bipush (v := (10 : Int32)) dX0_told_25 (by decide) ?_
      refine g_cSRv (rv := fun x : Int32 => Value.int x) [.int a2, .int (0 : Int32), .int (10 : Int32)] (fun x0 e0 => ok_X0_in (xl X) g m a2 (0 : Int32) (10 : Int32) x0 e0) (lw_S q312 q313 q123 q314) hy_X0_in rfl ⟨by decide, by decide⟩ rfl zc_0 (by decide) dX0_told_27 h (fun v2 h => ?_)
      refine g_if_eq 69 dX0_told_30 (by decide) (fun c => ?_) (fun c => ?_)
      · have h := zite_p h c
        refine g_bipush (v := (-2 : Int32)) dX0_told_69 (by decide) ?_
        refine g_iret dX0_told_71 hxt ?_
        have e := Option.some.inj h
        exact Kret _ _ e
      · have h := zite_n h c
        refine g_aload_n dX0_told_33 0 rfl ?_
        refine gf_r zfd_0_0 q239  (fun _ h9 => h9) dX0_told_34 h (fun r3 h => ?_)
        refine gf_rN zfd_1_0 q177  (fun _ h9 => h9) dX0_told_37 h (fun r4 h => ?_)
        refine g_bipush (v := (6 : Int32)) dX0_told_40 (by decide) ?_
        refine g_iald dX0_told_42 h (fun v5 h => ?_)
        refine g_bipush (v := (8 : Int32)) dX0_told_43 (by decide) ?_
        refine g_icmp_ge 69 dX0_told_45 (by decide) (fun c => ?_) (fun c => ?_)
        · have h := zite_p h c
          refine g_bipush (v := (-2 : Int32)) dX0_told_69 (by decide) ?_
          refine g_iret dX0_told_71 hxt ?_
          have e := Option.some.inj h
          exact Kret _ _ e
        · have h := zite_n h c
          refine g_aload_n dX0_told_48 0 rfl ?_
          refine gf_r zfd_0_0 q239  (fun _ h9 => h9) dX0_told_49 h (fun r6 h => ?_)
          refine g_aload_n dX0_told_52 0 rfl ?_
          refine gf_r zfd_0_0 q239  (fun _ h9 => h9) dX0_told_53 h (fun r7 h => ?_)
          refine gf_rN zfd_1_9 q195  (fun _ h9 => h9) dX0_told_56 h (fun r8 h => ?_)
          refine g_bipush (v := (6 : Int32)) dX0_told_59 (by decide) ?_
          refine g_iload_n dX0_told_61 1 rfl ?_
          refine g_iload_n dX0_told_62 2 rfl ?_
          refine g_cVMv (rv := fun x : Int32 => Value.int x) [va_rf r8, .int (6 : Int32), .int a1, .int a2] (fun x0 m0 e0 => ok_X1_adds (xl X) g m r6 r8 (6 : Int32) a1 a2 x0 m0 e0) zc1 (by decide) (lw_V q1244 q1245 q1246 q124 q1247) rfl hy_X1_adds rfl ⟨by decide, by decide⟩ rfl zc_0 (by decide) dX0_told_63 h (fun v9 m10 h => ?_)
          refine g_goto 71 dX0_told_66 (by decide) ?_
          refine g_iret dX0_told_71 hxt ?_
          have e := Option.some.inj h
          exact Kret _ _ e
  · have h := zite_p h c
    refine g_aload_n dX0_told_5 0 rfl ?_
    refine gf_r zfd_0_0 q239  (fun _ h9 => h9) dX0_told_6 h (fun r11 h => ?_)
    refine g_bipush (v := (6 : Int32)) dX0_told_9 (by decide) ?_
    refine g_cVMv (rv := fun x : Int32 => Value.int x) [.int (6 : Int32)] (fun x0 m0 e0 => ok_X1_clears (xl X) g m r11 (6 : Int32) x0 m0 e0) zc1 (by decide) (lw_V q1237 q1238 q1239 q124 q1240) rfl hy_X1_clears rfl ⟨by decide, by decide⟩ rfl zc_0 (by decide) dX0_told_11 h (fun v12 m13 h => ?_)
    refine g_iret dX0_told_14 hxt ?_
    have e := Option.some.inj h
    exact Kret _ _ e
/-! QuiverKin.isLaw -/
def b_X0_isLaw_2 (g : zGd) (a0 : Option Nat) (a1 : Option Nat) : Int32 × zMm → Option ((((Int32 × zMm) ⊕ (zMm))) ⊕ (Int32 × zMm)) := fun (v4, m5) =>
(zgr g m5 0 0 a0).bind fun r6 =>
(zgr g m5 1 0 r6).bind fun r7 =>
(zald 101 g m5 r7 (6 : Int32)).bind fun v8 =>
if v8 ≤ v4 then (some (.inl (.inr m5)))
else ((zgr g m5 0 0 a0).bind fun r9 =>
(zgr g m5 1 1 r9).bind fun r10 =>
(zgr g m5 0 0 a0).bind fun r11 =>
(zgr g m5 1 9 r11).bind fun r12 =>
(zaldr 106 g m5 r12 v4).bind fun r13 =>
(zald 101 g m5 r13 (0 : Int32)).bind fun v14 =>
(zrc g 0 a0 (f_X0_reachesBy g m5 a0 a1 r10 v14)).bind fun (v15, m16) =>
(zgr g m16 0 0 a0).bind fun r17 =>
(zgr g m16 1 9 r17).bind fun r18 =>
(zaldr 106 g m16 r18 v4).bind fun r19 =>
(zald 101 g m16 r19 (1 : Int32)).bind fun v20 =>
if v15 = v20 then (zlt (v4 + (1 : Int32)) fun v21 =>
some (.inr (v21, m16)))
else (some (.inl (.inl (((0 : Int32), m16))))))
def f_X0_isLaw (g : zGd) (m : zMm) (a0 : Option Nat) (a1 : Option Nat) : Option (Int32 × zMm) :=
zEx (σ := zMm) (zLoop (b_X0_isLaw_2 g a0 a1) zFuel ((0 : Int32), m)) fun m2 =>
some (((1 : Int32), m2))
theorem hy_X0_isLaw : zHy yX0_isLaw 1 := ⟨by decide, by decide, by decide +kernel⟩
set_option maxHeartbeats 4000000 in
theorem ok_X0_isLaw (l : Launch) (g : zGd) (m : zMm) (a0 : Option Nat) (a1 : Option Nat) (z0 : Int32) (m0 : zMm) (h : f_X0_isLaw g m a0 a1 = some (z0, m0)) : zCT l yX0_isLaw cX0_isLaw 3 (some .boolean) 282 5951 g m [va_rf a0, va_rf a1] (some (.int z0)) g m0 := by
  refine zCT.of (own := "QuiverKin") (mn := "isLaw") (by decide +kernel) rfl rfl (zla_r (zla_r zla_0)) (zls_r (zls_r zls_0)) (by decide) (fun X hxl hxg hxf hxt hxr hxn => ?_)
  have Kret : ∀ (y0 : Int32) (y1 : zMm), (y0, y1) = (z0, m0) → zRe X g y1 (some (.int y0)) := by
    intro y0 y1 e; cases e; exact ⟨hxf, hxr, hxn⟩
  subst hxl
  show zG X cX0_isLaw 3 "QuiverKin" "isLaw" 282 5951 0 [(0, va_rf a0), (1, va_rf a1)] [] g m
  unfold f_X0_isLaw at h
  refine g_iconst (v := (0 : Int32)) dX0_isLaw_0 (by decide) ?_
  refine g_istore_n [(2, .int (0 : Int32)), (0, va_rf a0), (1, va_rf a1)] dX0_isLaw_1 (by decide) (zf_r (zf_r zf_0)) rfl ?_
  obtain ⟨o1, h1, hl1, hr1⟩ := zEx_e h
  have K1 : ∀ (m2 : zMm), o1 = .inr m2 → zG X cX0_isLaw 3 "QuiverKin" "isLaw" 282 5951 61 [] [] g m2 := by
    intro m2 e
    have h := hr1 _ e
    refine g_iconst (v := (1 : Int32)) dX0_isLaw_61 (by decide) ?_
    refine g_zret dX0_isLaw_62 hxt rfl ?_
    have e := Option.some.inj h
    exact Kret _ _ e
  refine zG.sub [1, 2, 0] rfl ?_
  refine zLoop_ok (Φ := (fun (q : Int32 × zMm) => match q with | (v4, m5) => zG X cX0_isLaw 3 "QuiverKin" "isLaw" 282 5951 2 [(0, va_rf a0), (1, va_rf a1), (2, .int v4)] [] g m5)) o1 ?_ zFuel _ h1
  rintro ⟨v4, m5⟩ x3 h hl3 hr3
  unfold b_X0_isLaw_2 at h
  have K3 : ∀ (v4 : Int32) (m5 : zMm), x3 = .inr (v4, m5) → zG X cX0_isLaw 3 "QuiverKin" "isLaw" 282 5951 2 [(0, va_rf a0), (1, va_rf a1), (2, .int v4)] [] g m5 := by
    intro v4 m5 e
    exact hr3 _ e
  show zG X cX0_isLaw 3 "QuiverKin" "isLaw" 282 5951 2 [(0, va_rf a0), (1, va_rf a1), (2, .int v4)] [] g m5
  refine g_iload_n dX0_isLaw_2 2 rfl ?_
  refine g_aload_n dX0_isLaw_3 0 rfl ?_
  refine gf_r zfd_0_0 q239  (fun _ h9 => h9) dX0_isLaw_4 h (fun r6 h => ?_)
  refine gf_rN zfd_1_0 q177  (fun _ h9 => h9) dX0_isLaw_7 h (fun r7 h => ?_)
  refine g_bipush (v := (6 : Int32)) dX0_isLaw_10 (by decide) ?_
  refine g_iald dX0_isLaw_12 h (fun v8 h => ?_)
  refine g_icmp_ge 61 dX0_isLaw_13 (by decide) (fun c => ?_) (fun c => ?_)
  · have h := zite_p h c
    refine zG.sub [] rfl ?_
    have e := Option.some.inj h
    have e := hl3 _ e.symm
    exact K1 _ e.symm
  · have h := zite_n h c
    refine g_aload_n dX0_isLaw_16 0 rfl ?_
    refine g_aload_n dX0_isLaw_17 1 rfl ?_
    refine g_aload_n dX0_isLaw_18 0 rfl ?_
    refine gf_r zfd_0_0 q239  (fun _ h9 => h9) dX0_isLaw_19 h (fun r9 h => ?_)
    refine gf_rN zfd_1_1 q179  (fun _ h9 => h9) dX0_isLaw_22 h (fun r10 h => ?_)
    refine g_aload_n dX0_isLaw_25 0 rfl ?_
    refine gf_r zfd_0_0 q239  (fun _ h9 => h9) dX0_isLaw_26 h (fun r11 h => ?_)
    refine gf_rN zfd_1_9 q195  (fun _ h9 => h9) dX0_isLaw_29 h (fun r12 h => ?_)
    refine g_iload_n dX0_isLaw_32 2 rfl ?_
    refine g_aald 5 rfl rfl (by decide)  dX0_isLaw_33 h (fun r13 h => ?_)
    refine g_iconst (v := (0 : Int32)) dX0_isLaw_34 (by decide) ?_
    refine g_iald dX0_isLaw_35 h (fun v14 h => ?_)
    refine g_cVMv (rv := fun x : Int32 => Value.int x) [va_rf a1, va_rf r10, .int v14] (fun x0 m0 e0 => ok_X0_reachesBy (xl X) g m5 a0 a1 r10 v14 x0 m0 e0) zc0 (by decide) (lw_V q952 q954 qs31 q123 q955) rfl hy_X0_reachesBy rfl ⟨by decide, by decide⟩ rfl zc_0 (by decide) dX0_isLaw_36 h (fun v15 m16 h => ?_)
    refine g_aload_n dX0_isLaw_39 0 rfl ?_
    refine gf_r zfd_0_0 q239  (fun _ h9 => h9) dX0_isLaw_40 h (fun r17 h => ?_)
    refine gf_rN zfd_1_9 q195  (fun _ h9 => h9) dX0_isLaw_43 h (fun r18 h => ?_)
    refine g_iload_n dX0_isLaw_46 2 rfl ?_
    refine g_aald 5 rfl rfl (by decide)  dX0_isLaw_47 h (fun r19 h => ?_)
    refine g_iconst (v := (1 : Int32)) dX0_isLaw_48 (by decide) ?_
    refine g_iald dX0_isLaw_49 h (fun v20 h => ?_)
    refine g_icmp_eq 55 dX0_isLaw_50 (by decide) (fun c => ?_) (fun c => ?_)
    · have h := zite_p h c
      refine g_iinc (v := (1 : Int32)) [(0, va_rf a0), (1, va_rf a1)] dX0_isLaw_55 2 rfl (by decide) (by decide) (zf_r (zf_r (zf_i zf_0))) rfl h (fun v21 h => ?_)
      refine g_goto 2 dX0_isLaw_58 (by decide) ?_
      refine zG.sub [1, 2, 0] rfl ?_
      have e := Option.some.inj h
      exact K3 _ _ e.symm
    · have h := zite_n h c
      refine g_iconst (v := (0 : Int32)) dX0_isLaw_53 (by decide) ?_
      refine g_zret dX0_isLaw_54 hxt rfl ?_
      have e := Option.some.inj h
      have e := hl3 _ e.symm
      have e := hl1 _ e.symm
      exact Kret _ _ e
/-! QuiverKin.whose -/
def b_X0_whose_4 (g : zGd) (a0 : Option Nat) : Int32 × Int32 × zMm → Option ((Int32 × zMm) ⊕ (Int32 × Int32 × zMm)) := fun (v5, v6, m7) =>
(zgr g m7 0 0 a0).bind fun r8 =>
(zgr g m7 1 0 r8).bind fun r9 =>
(zald 101 g m7 r9 (1 : Int32)).bind fun v10 =>
if v10 ≤ v6 then (some (.inl ((v5, m7))))
else ((zgr g m7 0 0 a0).bind fun r11 =>
(zgr g m7 1 11 r11).bind fun r12 =>
(zaldr 108 g m7 r12 v6).bind fun r13 =>
(zrc g 0 a0 (f_X0_isLaw g m7 a0 r13)).bind fun (v14, m15) =>
if v14 = 0 then (zlt (v5 ||| (0 : Int32)) fun v16 =>
zlt (v6 + (1 : Int32)) fun v17 =>
some (.inr (v16, v17, m15)))
else (zlt (v5 ||| (zshl (1 : Int32) v6)) fun v18 =>
zlt (v6 + (1 : Int32)) fun v19 =>
some (.inr (v18, v19, m15))))
def f_X0_whose (g : zGd) (m : zMm) (a0 : Option Nat) : Option (Int32 × zMm) :=
(zLoop (b_X0_whose_4 g a0) zFuel ((0 : Int32), (0 : Int32), m)).bind fun (v2, m3) =>
some ((v2, m3))
theorem hy_X0_whose : zHy yX0_whose 0 := ⟨by decide, by decide, by decide +kernel⟩
set_option maxHeartbeats 4000000 in
theorem ok_X0_whose (l : Launch) (g : zGd) (m : zMm) (a0 : Option Nat) (z0 : Int32) (m0 : zMm) (h : f_X0_whose g m a0 = some (z0, m0)) : zCT l yX0_whose cX0_whose 3 (some .int) 283 5973 g m [va_rf a0] (some (.int z0)) g m0 := by
  refine zCT.of (own := "QuiverKin") (mn := "whose") (by decide +kernel) rfl rfl (zla_r zla_0) (zls_r zls_0) (by decide) (fun X hxl hxg hxf hxt hxr hxn => ?_)
  have Kret : ∀ (y0 : Int32) (y1 : zMm), (y0, y1) = (z0, m0) → zRe X g y1 (some (.int y0)) := by
    intro y0 y1 e; cases e; exact ⟨hxf, hxr, hxn⟩
  subst hxl
  show zG X cX0_whose 3 "QuiverKin" "whose" 283 5973 0 [(0, va_rf a0)] [] g m
  unfold f_X0_whose at h
  refine g_iconst (v := (0 : Int32)) dX0_whose_0 (by decide) ?_
  refine g_istore_n [(1, .int (0 : Int32)), (0, va_rf a0)] dX0_whose_1 (by decide) (zf_r zf_0) rfl ?_
  refine g_iconst (v := (0 : Int32)) dX0_whose_2 (by decide) ?_
  refine g_istore_n [(2, .int (0 : Int32)), (1, .int (0 : Int32)), (0, va_rf a0)] dX0_whose_3 (by decide) (zf_i (zf_r zf_0)) rfl ?_
  obtain ⟨o1, h1, h2⟩ := zB_e h
  have K1 : ∀ (v2 : Int32) (m3 : zMm), o1 = (v2, m3) → zG X cX0_whose 3 "QuiverKin" "whose" 283 5973 49 [(1, .int v2)] [] g m3 := by
    intro v2 m3 e
    rw [e] at h2
    have h := h2
    refine g_iload_n dX0_whose_49 0 rfl ?_
    refine g_iret dX0_whose_50 hxt ?_
    have e := Option.some.inj h
    exact Kret _ _ e
  refine zG.sub [2, 1, 0] rfl ?_
  refine zLoop_ok (Φ := (fun (q : Int32 × Int32 × zMm) => match q with | (v5, v6, m7) => zG X cX0_whose 3 "QuiverKin" "whose" 283 5973 4 [(0, va_rf a0), (1, .int v5), (2, .int v6)] [] g m7)) o1 ?_ zFuel _ h1
  rintro ⟨v5, v6, m7⟩ x4 h hl4 hr4
  unfold b_X0_whose_4 at h
  have K4 : ∀ (v5 : Int32) (v6 : Int32) (m7 : zMm), x4 = .inr (v5, v6, m7) → zG X cX0_whose 3 "QuiverKin" "whose" 283 5973 4 [(0, va_rf a0), (1, .int v5), (2, .int v6)] [] g m7 := by
    intro v5 v6 m7 e
    exact hr4 _ e
  show zG X cX0_whose 3 "QuiverKin" "whose" 283 5973 4 [(0, va_rf a0), (1, .int v5), (2, .int v6)] [] g m7
  refine g_iload_n dX0_whose_4 2 rfl ?_
  refine g_aload_n dX0_whose_5 0 rfl ?_
  refine gf_r zfd_0_0 q239  (fun _ h9 => h9) dX0_whose_6 h (fun r8 h => ?_)
  refine gf_rN zfd_1_0 q177  (fun _ h9 => h9) dX0_whose_9 h (fun r9 h => ?_)
  refine g_iconst (v := (1 : Int32)) dX0_whose_12 (by decide) ?_
  refine g_iald dX0_whose_13 h (fun v10 h => ?_)
  refine g_icmp_ge 49 dX0_whose_14 (by decide) (fun c => ?_) (fun c => ?_)
  · have h := zite_p h c
    refine zG.sub [1] rfl ?_
    have e := Option.some.inj h
    have e := hl4 _ e.symm
    exact K1 _ _ e.symm
  · have h := zite_n h c
    refine g_iload_n dX0_whose_17 1 rfl ?_
    refine g_aload_n dX0_whose_18 0 rfl ?_
    refine g_aload_n dX0_whose_19 0 rfl ?_
    refine gf_r zfd_0_0 q239  (fun _ h9 => h9) dX0_whose_20 h (fun r11 h => ?_)
    refine gf_rN zfd_1_11 q199  (fun _ h9 => h9) dX0_whose_23 h (fun r12 h => ?_)
    refine g_iload_n dX0_whose_26 2 rfl ?_
    refine g_aald 7 rfl rfl (by decide)  dX0_whose_27 h (fun r13 h => ?_)
    refine g_cVMv (rv := fun x : Int32 => Value.int x) [va_rf r13] (fun x0 m0 e0 => ok_X0_isLaw (xl X) g m7 a0 r13 x0 m0 e0) zc0 (by decide) (lw_V q1373 q1375 qs53 q123 q1376) rfl hy_X0_isLaw rfl ⟨by decide, by decide⟩ rfl (zc_i zc_0) (by decide) dX0_whose_28 h (fun v14 m15 h => ?_)
    refine g_if_eq 40 dX0_whose_31 (by decide) (fun c => ?_) (fun c => ?_)
    · have h := zite_p h c
      refine g_iconst (v := (0 : Int32)) dX0_whose_40 (by decide) ?_
      refine g_ior dX0_whose_41 ?_
      refine g_leti h (fun v16 h => ?_)
      refine g_istore_n [(1, .int v16), (0, va_rf a0), (2, .int v6)] dX0_whose_42 (by decide) (zf_r (zf_i (zf_i zf_0))) rfl ?_
      refine g_iinc (v := (1 : Int32)) [(1, .int v16), (0, va_rf a0)] dX0_whose_43 2 rfl (by decide) (by decide) (zf_i (zf_r (zf_i zf_0))) rfl h (fun v17 h => ?_)
      refine g_goto 4 dX0_whose_46 (by decide) ?_
      refine zG.sub [2, 1, 0] rfl ?_
      have e := Option.some.inj h
      exact K4 _ _ _ e.symm
    · have h := zite_n h c
      refine g_iconst (v := (1 : Int32)) dX0_whose_34 (by decide) ?_
      refine g_iload_n dX0_whose_35 2 rfl ?_
      refine g_ishl dX0_whose_36 ?_
      refine g_goto 41 dX0_whose_37 (by decide) ?_
      refine g_ior dX0_whose_41 ?_
      refine g_leti h (fun v18 h => ?_)
      refine g_istore_n [(1, .int v18), (0, va_rf a0), (2, .int v6)] dX0_whose_42 (by decide) (zf_r (zf_i (zf_i zf_0))) rfl ?_
      refine g_iinc (v := (1 : Int32)) [(1, .int v18), (0, va_rf a0)] dX0_whose_43 2 rfl (by decide) (by decide) (zf_i (zf_r (zf_i zf_0))) rfl h (fun v19 h => ?_)
      refine g_goto 4 dX0_whose_46 (by decide) ?_
      refine zG.sub [2, 1, 0] rfl ?_
      have e := Option.some.inj h
      exact K4 _ _ _ e.symm
/-! QuiverKin.fullest -/
def b_X0_fullest_4 (g : zGd) (m : zMm) (a0 : Option Nat) : Int32 × Int32 → Option ((Int32) ⊕ (Int32 × Int32)) := fun (v4, v5) =>
(zrc g 0 a0 (f_X0_many g m a0)).bind fun v6 =>
if v6 ≤ v5 then (some (.inl v4))
else ((zgr g m 0 0 a0).bind fun r7 =>
(zgr g m 1 1 r7).bind fun r8 =>
(zald 101 g m r8 ((8 : Int32) + v5)).bind fun v9 =>
((if v4 = (-1 : Int32) then (some ((0 : Int32)))
else ((zgr g m 0 0 a0).bind fun r12 =>
(zgr g m 1 1 r12).bind fun r13 =>
(zald 101 g m r13 ((8 : Int32) + v4)).bind fun v14 =>
some (v14)) : Option (Int32))).bind fun v11 =>
if v9 ≤ v11 then (zlt (v5 + (1 : Int32)) fun v15 =>
some (.inr (v4, v15)))
else (zlt (v5 + (1 : Int32)) fun v16 =>
some (.inr (v5, v16))))
def f_X0_fullest (g : zGd) (m : zMm) (a0 : Option Nat) : Option (Int32) :=
(zLoop (b_X0_fullest_4 g m a0) zFuel ((-1 : Int32), (0 : Int32))).bind fun v2 =>
some (v2)
theorem hy_X0_fullest : zHy yX0_fullest 0 := ⟨by decide, by decide, by decide +kernel⟩
set_option maxHeartbeats 4000000 in
theorem ok_X0_fullest (l : Launch) (g : zGd) (m : zMm) (a0 : Option Nat) (z0 : Int32) (h : f_X0_fullest g m a0 = some z0) : zCT l yX0_fullest cX0_fullest 3 (some .int) 2 40 g m [va_rf a0] (some (.int z0)) g m := by
  refine zCT.of (own := "QuiverKin") (mn := "fullest") (by decide +kernel) rfl rfl (zla_r zla_0) (zls_r zls_0) (by decide) (fun X hxl hxg hxf hxt hxr hxn => ?_)
  have Kret : ∀ (y0 : Int32), y0 = z0 → zRe X g m (some (.int y0)) := by
    intro y0 e; cases e; exact ⟨hxf, hxr, hxn⟩
  subst hxl
  show zG X cX0_fullest 3 "QuiverKin" "fullest" 2 40 0 [(0, va_rf a0)] [] g m
  unfold f_X0_fullest at h
  refine g_iconst (v := (-1 : Int32)) dX0_fullest_0 (by decide) ?_
  refine g_istore_n [(1, .int (-1 : Int32)), (0, va_rf a0)] dX0_fullest_1 (by decide) (zf_r zf_0) rfl ?_
  refine g_iconst (v := (0 : Int32)) dX0_fullest_2 (by decide) ?_
  refine g_istore_n [(2, .int (0 : Int32)), (1, .int (-1 : Int32)), (0, va_rf a0)] dX0_fullest_3 (by decide) (zf_i (zf_r zf_0)) rfl ?_
  obtain ⟨o1, h1, h2⟩ := zB_e h
  have K1 : ∀ (v2 : Int32), o1 = v2 → zG X cX0_fullest 3 "QuiverKin" "fullest" 2 40 56 [(1, .int v2)] [] g m := by
    intro v2 e
    rw [e] at h2
    have h := h2
    refine g_iload_n dX0_fullest_56 0 rfl ?_
    refine g_iret dX0_fullest_57 hxt ?_
    have e := Option.some.inj h
    exact Kret _ e
  refine zG.sub [2, 1, 0] rfl ?_
  refine zLoop_ok (Φ := (fun (q : Int32 × Int32) => match q with | (v4, v5) => zG X cX0_fullest 3 "QuiverKin" "fullest" 2 40 4 [(0, va_rf a0), (1, .int v4), (2, .int v5)] [] g m)) o1 ?_ zFuel _ h1
  rintro ⟨v4, v5⟩ x3 h hl3 hr3
  unfold b_X0_fullest_4 at h
  have K3 : ∀ (v4 : Int32) (v5 : Int32), x3 = .inr (v4, v5) → zG X cX0_fullest 3 "QuiverKin" "fullest" 2 40 4 [(0, va_rf a0), (1, .int v4), (2, .int v5)] [] g m := by
    intro v4 v5 e
    exact hr3 _ e
  show zG X cX0_fullest 3 "QuiverKin" "fullest" 2 40 4 [(0, va_rf a0), (1, .int v4), (2, .int v5)] [] g m
  refine g_iload_n dX0_fullest_4 2 rfl ?_
  refine g_aload_n dX0_fullest_5 0 rfl ?_
  refine g_cVRv (rv := fun x : Int32 => Value.int x) [] (fun x0 e0 => ok_X0_many (xl X) g m a0 x0 e0) zc0 (by decide) (lw_V q308 q310 qs0 q123 q311) rfl hy_X0_many rfl ⟨by decide, by decide⟩ rfl (zc_i zc_0) (by decide) dX0_fullest_6 h (fun v6 h => ?_)
  refine g_icmp_ge 56 dX0_fullest_9 (by decide) (fun c => ?_) (fun c => ?_)
  · have h := zite_p h c
    refine zG.sub [1] rfl ?_
    have e := Option.some.inj h
    have e := hl3 _ e.symm
    exact K1 _ e.symm
  · have h := zite_n h c
    refine g_aload_n dX0_fullest_12 0 rfl ?_
    refine gf_r zfd_0_0 q239  (fun _ h9 => h9) dX0_fullest_13 h (fun r7 h => ?_)
    refine gf_rN zfd_1_1 q179  (fun _ h9 => h9) dX0_fullest_16 h (fun r8 h => ?_)
    refine g_bipush (v := (8 : Int32)) dX0_fullest_19 (by decide) ?_
    refine g_iload_n dX0_fullest_21 2 rfl ?_
    refine g_iadd dX0_fullest_22 ?_
    refine g_iald dX0_fullest_23 h (fun v9 h => ?_)
    refine g_iload_n dX0_fullest_24 1 rfl ?_
    refine g_iconst (v := (-1 : Int32)) dX0_fullest_25 (by decide) ?_
    obtain ⟨o10, h1, h2⟩ := zB_e h
    have K10 : ∀ (v11 : Int32), o10 = v11 → zG X cX0_fullest 3 "QuiverKin" "fullest" 2 40 45 [(0, va_rf a0), (1, .int v4), (2, .int v5)] [.int v11, .int v9] g m := by
      intro v11 e
      rw [e] at h2
      have h := h2
      refine g_icmp_le 50 dX0_fullest_45 (by decide) (fun c => ?_) (fun c => ?_)
      · have h := zite_p h c
        refine g_iinc (v := (1 : Int32)) [(0, va_rf a0), (1, .int v4)] dX0_fullest_50 2 rfl (by decide) (by decide) (zf_r (zf_i (zf_i zf_0))) rfl h (fun v15 h => ?_)
        refine g_goto 4 dX0_fullest_53 (by decide) ?_
        refine zG.sub [1, 2, 0] rfl ?_
        have e := Option.some.inj h
        exact K3 _ _ e.symm
      · have h := zite_n h c
        refine g_iload_n dX0_fullest_48 2 rfl ?_
        refine g_istore_n [(1, .int v5), (0, va_rf a0), (2, .int v5)] dX0_fullest_49 (by decide) (zf_r (zf_i (zf_i zf_0))) rfl ?_
        refine g_iinc (v := (1 : Int32)) [(1, .int v5), (0, va_rf a0)] dX0_fullest_50 2 rfl (by decide) (by decide) (zf_i (zf_r (zf_i zf_0))) rfl h (fun v16 h => ?_)
        refine g_goto 4 dX0_fullest_53 (by decide) ?_
        refine zG.sub [2, 1, 0] rfl ?_
        have e := Option.some.inj h
        exact K3 _ _ e.symm
    have h := h1
    refine g_icmp_ne 33 dX0_fullest_26 (by decide) (fun c => ?_) (fun c => ?_)
    · have h := zite_n h c
      refine g_aload_n dX0_fullest_33 0 rfl ?_
      refine gf_r zfd_0_0 q239  (fun _ h9 => h9) dX0_fullest_34 h (fun r12 h => ?_)
      refine gf_rN zfd_1_1 q179  (fun _ h9 => h9) dX0_fullest_37 h (fun r13 h => ?_)
      refine g_bipush (v := (8 : Int32)) dX0_fullest_40 (by decide) ?_
      refine g_iload_n dX0_fullest_42 1 rfl ?_
      refine g_iadd dX0_fullest_43 ?_
      refine g_iald dX0_fullest_44 h (fun v14 h => ?_)
      refine zG.sub [0, 1, 2] rfl ?_
      have e := Option.some.inj h
      exact K10 _ e.symm
    · have h := zite_p h c
      refine g_iconst (v := (0 : Int32)) dX0_fullest_29 (by decide) ?_
      refine g_goto 45 dX0_fullest_30 (by decide) ?_
      refine zG.sub [0, 1, 2] rfl ?_
      have e := Option.some.inj h
      exact K10 _ e.symm
/-! QuiverKin.calm -/
def b_X0_calm_4 (g : zGd) (m : zMm) (a0 : Option Nat) : Int32 × Int32 → Option ((Int32) ⊕ (Int32 × Int32)) := fun (v4, v5) =>
(zrc g 0 a0 (f_X0_many g m a0)).bind fun v6 =>
if v6 ≤ v5 then (some (.inl v4))
else ((zgr g m 0 0 a0).bind fun r7 =>
(zgr g m 1 1 r7).bind fun r8 =>
(zald 101 g m r8 ((8 : Int32) + v5)).bind fun v9 =>
if v9 = 0 then (zlt (v4 ||| (zshl (1 : Int32) v5)) fun v12 =>
zlt (v5 + (1 : Int32)) fun v13 =>
some (.inr (v12, v13)))
else (zlt (v4 ||| (0 : Int32)) fun v10 =>
zlt (v5 + (1 : Int32)) fun v11 =>
some (.inr (v10, v11))))
def f_X0_calm (g : zGd) (m : zMm) (a0 : Option Nat) : Option (Int32) :=
(zLoop (b_X0_calm_4 g m a0) zFuel ((0 : Int32), (0 : Int32))).bind fun v2 =>
some (v2)
theorem hy_X0_calm : zHy yX0_calm 0 := ⟨by decide, by decide, by decide +kernel⟩
set_option maxHeartbeats 4000000 in
theorem ok_X0_calm (l : Launch) (g : zGd) (m : zMm) (a0 : Option Nat) (z0 : Int32) (h : f_X0_calm g m a0 = some z0) : zCT l yX0_calm cX0_calm 3 (some .int) 2 40 g m [va_rf a0] (some (.int z0)) g m := by
  refine zCT.of (own := "QuiverKin") (mn := "calm") (by decide +kernel) rfl rfl (zla_r zla_0) (zls_r zls_0) (by decide) (fun X hxl hxg hxf hxt hxr hxn => ?_)
  have Kret : ∀ (y0 : Int32), y0 = z0 → zRe X g m (some (.int y0)) := by
    intro y0 e; cases e; exact ⟨hxf, hxr, hxn⟩
  subst hxl
  show zG X cX0_calm 3 "QuiverKin" "calm" 2 40 0 [(0, va_rf a0)] [] g m
  unfold f_X0_calm at h
  refine g_iconst (v := (0 : Int32)) dX0_calm_0 (by decide) ?_
  refine g_istore_n [(1, .int (0 : Int32)), (0, va_rf a0)] dX0_calm_1 (by decide) (zf_r zf_0) rfl ?_
  refine g_iconst (v := (0 : Int32)) dX0_calm_2 (by decide) ?_
  refine g_istore_n [(2, .int (0 : Int32)), (1, .int (0 : Int32)), (0, va_rf a0)] dX0_calm_3 (by decide) (zf_i (zf_r zf_0)) rfl ?_
  obtain ⟨o1, h1, h2⟩ := zB_e h
  have K1 : ∀ (v2 : Int32), o1 = v2 → zG X cX0_calm 3 "QuiverKin" "calm" 2 40 43 [(1, .int v2)] [] g m := by
    intro v2 e
    rw [e] at h2
    have h := h2
    refine g_iload_n dX0_calm_43 0 rfl ?_
    refine g_iret dX0_calm_44 hxt ?_
    have e := Option.some.inj h
    exact Kret _ e
  refine zG.sub [2, 1, 0] rfl ?_
  refine zLoop_ok (Φ := (fun (q : Int32 × Int32) => match q with | (v4, v5) => zG X cX0_calm 3 "QuiverKin" "calm" 2 40 4 [(0, va_rf a0), (1, .int v4), (2, .int v5)] [] g m)) o1 ?_ zFuel _ h1
  rintro ⟨v4, v5⟩ x3 h hl3 hr3
  unfold b_X0_calm_4 at h
  have K3 : ∀ (v4 : Int32) (v5 : Int32), x3 = .inr (v4, v5) → zG X cX0_calm 3 "QuiverKin" "calm" 2 40 4 [(0, va_rf a0), (1, .int v4), (2, .int v5)] [] g m := by
    intro v4 v5 e
    exact hr3 _ e
  show zG X cX0_calm 3 "QuiverKin" "calm" 2 40 4 [(0, va_rf a0), (1, .int v4), (2, .int v5)] [] g m
  refine g_iload_n dX0_calm_4 2 rfl ?_
  refine g_aload_n dX0_calm_5 0 rfl ?_
  refine g_cVRv (rv := fun x : Int32 => Value.int x) [] (fun x0 e0 => ok_X0_many (xl X) g m a0 x0 e0) zc0 (by decide) (lw_V q308 q310 qs0 q123 q311) rfl hy_X0_many rfl ⟨by decide, by decide⟩ rfl (zc_i zc_0) (by decide) dX0_calm_6 h (fun v6 h => ?_)
  refine g_icmp_ge 43 dX0_calm_9 (by decide) (fun c => ?_) (fun c => ?_)
  · have h := zite_p h c
    refine zG.sub [1] rfl ?_
    have e := Option.some.inj h
    have e := hl3 _ e.symm
    exact K1 _ e.symm
  · have h := zite_n h c
    refine g_iload_n dX0_calm_12 1 rfl ?_
    refine g_aload_n dX0_calm_13 0 rfl ?_
    refine gf_r zfd_0_0 q239  (fun _ h9 => h9) dX0_calm_14 h (fun r7 h => ?_)
    refine gf_rN zfd_1_1 q179  (fun _ h9 => h9) dX0_calm_17 h (fun r8 h => ?_)
    refine g_bipush (v := (8 : Int32)) dX0_calm_20 (by decide) ?_
    refine g_iload_n dX0_calm_22 2 rfl ?_
    refine g_iadd dX0_calm_23 ?_
    refine g_iald dX0_calm_24 h (fun v9 h => ?_)
    refine g_if_ne 34 dX0_calm_25 (by decide) (fun c => ?_) (fun c => ?_)
    · have h := zite_n h c
      refine g_iconst (v := (0 : Int32)) dX0_calm_34 (by decide) ?_
      refine g_ior dX0_calm_35 ?_
      refine g_leti h (fun v10 h => ?_)
      refine g_istore_n [(1, .int v10), (0, va_rf a0), (2, .int v5)] dX0_calm_36 (by decide) (zf_r (zf_i (zf_i zf_0))) rfl ?_
      refine g_iinc (v := (1 : Int32)) [(1, .int v10), (0, va_rf a0)] dX0_calm_37 2 rfl (by decide) (by decide) (zf_i (zf_r (zf_i zf_0))) rfl h (fun v11 h => ?_)
      refine g_goto 4 dX0_calm_40 (by decide) ?_
      refine zG.sub [2, 1, 0] rfl ?_
      have e := Option.some.inj h
      exact K3 _ _ e.symm
    · have h := zite_p h c
      refine g_iconst (v := (1 : Int32)) dX0_calm_28 (by decide) ?_
      refine g_iload_n dX0_calm_29 2 rfl ?_
      refine g_ishl dX0_calm_30 ?_
      refine g_goto 35 dX0_calm_31 (by decide) ?_
      refine g_ior dX0_calm_35 ?_
      refine g_leti h (fun v12 h => ?_)
      refine g_istore_n [(1, .int v12), (0, va_rf a0), (2, .int v5)] dX0_calm_36 (by decide) (zf_r (zf_i (zf_i zf_0))) rfl ?_
      refine g_iinc (v := (1 : Int32)) [(1, .int v12), (0, va_rf a0)] dX0_calm_37 2 rfl (by decide) (by decide) (zf_i (zf_r (zf_i zf_0))) rfl h (fun v13 h => ?_)
      refine g_goto 4 dX0_calm_40 (by decide) ?_
      refine zG.sub [2, 1, 0] rfl ?_
      have e := Option.some.inj h
      exact K3 _ _ e.symm
/-! QuiverKin.ledger -/
def b_X0_ledger_20 (g : zGd) (m : zMm) (a0 : Option Nat) (a1 : Int32) : Int32 × Int32 → Option ((Int32) ⊕ (Int32 × Int32)) := fun (v6, v7) =>
(zgr g m 0 0 a0).bind fun r8 =>
(zgr g m 1 1 r8).bind fun r9 =>
(zald 101 g m r9 (15 : Int32)).bind fun v10 =>
if v10 ≤ v7 then (some (.inl v6))
else (if a1 = (-1 : Int32) then (zlt (v6 + (1 : Int32)) fun v11 =>
zlt (v7 + (1 : Int32)) fun v12 =>
some (.inr (v11, v12)))
else ((zgr g m 0 0 a0).bind fun r13 =>
(zgr g m 1 1 r13).bind fun r14 =>
(zald 101 g m r14 (((16 : Int32) + ((4 : Int32) * v7)) + (1 : Int32))).bind fun v15 =>
if v15 = a1 then (zlt (v6 + (1 : Int32)) fun v18 =>
zlt (v7 + (1 : Int32)) fun v19 =>
some (.inr (v18, v19)))
else (zlt (v6 + (0 : Int32)) fun v16 =>
zlt (v7 + (1 : Int32)) fun v17 =>
some (.inr (v16, v17)))))
def f_X0_ledger (g : zGd) (m : zMm) (a0 : Option Nat) (a1 : Int32) : Option (Int32) :=
zEx (σ := Unit) (if a1 = (-1 : Int32) then (some (.inr ()))
else ((zrc g 0 a0 (f_X0_isKin g m a0 a1)).bind fun v2 =>
if v2 = 0 then (some (.inl ((-2 : Int32))))
else (some (.inr ())))) fun _ =>
(zLoop (b_X0_ledger_20 g m a0 a1) zFuel ((0 : Int32), (0 : Int32))).bind fun v4 =>
some (v4)
theorem hy_X0_ledger : zHy yX0_ledger 1 := ⟨by decide, by decide, by decide +kernel⟩
set_option maxHeartbeats 4000000 in
theorem ok_X0_ledger (l : Launch) (g : zGd) (m : zMm) (a0 : Option Nat) (a1 : Int32) (z0 : Int32) (h : f_X0_ledger g m a0 a1 = some z0) : zCT l yX0_ledger cX0_ledger 4 (some .int) 3 63 g m [va_rf a0, .int a1] (some (.int z0)) g m := by
  refine zCT.of (own := "QuiverKin") (mn := "ledger") (by decide +kernel) rfl rfl (zla_r (zla_i zla_0)) (zls_r (zls_i zls_0)) (by decide) (fun X hxl hxg hxf hxt hxr hxn => ?_)
  have Kret : ∀ (y0 : Int32), y0 = z0 → zRe X g m (some (.int y0)) := by
    intro y0 e; cases e; exact ⟨hxf, hxr, hxn⟩
  subst hxl
  show zG X cX0_ledger 4 "QuiverKin" "ledger" 3 63 0 [(0, va_rf a0), (1, .int a1)] [] g m
  unfold f_X0_ledger at h
  refine g_iload_n dX0_ledger_0 1 rfl ?_
  refine g_iconst (v := (-1 : Int32)) dX0_ledger_1 (by decide) ?_
  obtain ⟨o1, h1, hl1, hr1⟩ := zEx_e h
  have K1 : o1 = .inr () → zG X cX0_ledger 4 "QuiverKin" "ledger" 3 63 16 [(0, va_rf a0), (1, .int a1)] [] g m := by
    intro e
    have h := hr1 _ e
    refine g_iconst (v := (0 : Int32)) dX0_ledger_16 (by decide) ?_
    refine g_istore_n [(2, .int (0 : Int32)), (0, va_rf a0), (1, .int a1)] dX0_ledger_17 (by decide) (zf_r (zf_i zf_0)) rfl ?_
    refine g_iconst (v := (0 : Int32)) dX0_ledger_18 (by decide) ?_
    refine g_istore_n [(3, .int (0 : Int32)), (2, .int (0 : Int32)), (0, va_rf a0), (1, .int a1)] dX0_ledger_19 (by decide) (zf_i (zf_r (zf_i zf_0))) rfl ?_
    obtain ⟨o3, h1, h2⟩ := zB_e h
    have K3 : ∀ (v4 : Int32), o3 = v4 → zG X cX0_ledger 4 "QuiverKin" "ledger" 3 63 73 [(2, .int v4)] [] g m := by
      intro v4 e
      rw [e] at h2
      have h := h2
      refine g_iload_n dX0_ledger_73 0 rfl ?_
      refine g_iret dX0_ledger_74 hxt ?_
      have e := Option.some.inj h
      exact Kret _ e
    refine zG.sub [2, 3, 1, 0] rfl ?_
    refine zLoop_ok (Φ := (fun (q : Int32 × Int32) => match q with | (v6, v7) => zG X cX0_ledger 4 "QuiverKin" "ledger" 3 63 20 [(0, va_rf a0), (1, .int a1), (2, .int v6), (3, .int v7)] [] g m)) o3 ?_ zFuel _ h1
    rintro ⟨v6, v7⟩ x5 h hl5 hr5
    unfold b_X0_ledger_20 at h
    have K5 : ∀ (v6 : Int32) (v7 : Int32), x5 = .inr (v6, v7) → zG X cX0_ledger 4 "QuiverKin" "ledger" 3 63 20 [(0, va_rf a0), (1, .int a1), (2, .int v6), (3, .int v7)] [] g m := by
      intro v6 v7 e
      exact hr5 _ e
    show zG X cX0_ledger 4 "QuiverKin" "ledger" 3 63 20 [(0, va_rf a0), (1, .int a1), (2, .int v6), (3, .int v7)] [] g m
    refine g_iload_n dX0_ledger_20 3 rfl ?_
    refine g_aload_n dX0_ledger_21 0 rfl ?_
    refine gf_r zfd_0_0 q239  (fun _ h9 => h9) dX0_ledger_22 h (fun r8 h => ?_)
    refine gf_rN zfd_1_1 q179  (fun _ h9 => h9) dX0_ledger_25 h (fun r9 h => ?_)
    refine g_bipush (v := (15 : Int32)) dX0_ledger_28 (by decide) ?_
    refine g_iald dX0_ledger_30 h (fun v10 h => ?_)
    refine g_icmp_ge 73 dX0_ledger_31 (by decide) (fun c => ?_) (fun c => ?_)
    · have h := zite_p h c
      refine zG.sub [2] rfl ?_
      have e := Option.some.inj h
      have e := hl5 _ e.symm
      exact K3 _ e.symm
    · have h := zite_n h c
      refine g_iload_n dX0_ledger_34 2 rfl ?_
      refine g_iload_n dX0_ledger_35 1 rfl ?_
      refine g_iconst (v := (-1 : Int32)) dX0_ledger_36 (by decide) ?_
      refine g_icmp_eq 60 dX0_ledger_37 (by decide) (fun c => ?_) (fun c => ?_)
      · have h := zite_p h c
        refine g_iconst (v := (1 : Int32)) dX0_ledger_60 (by decide) ?_
        refine g_goto 65 dX0_ledger_61 (by decide) ?_
        refine g_iadd dX0_ledger_65 ?_
        refine g_leti h (fun v11 h => ?_)
        refine g_istore_n [(2, .int v11), (0, va_rf a0), (1, .int a1), (3, .int v7)] dX0_ledger_66 (by decide) (zf_r (zf_i (zf_i (zf_i zf_0)))) rfl ?_
        refine g_iinc (v := (1 : Int32)) [(2, .int v11), (0, va_rf a0), (1, .int a1)] dX0_ledger_67 3 rfl (by decide) (by decide) (zf_i (zf_r (zf_i (zf_i zf_0)))) rfl h (fun v12 h => ?_)
        refine g_goto 20 dX0_ledger_70 (by decide) ?_
        refine zG.sub [2, 3, 1, 0] rfl ?_
        have e := Option.some.inj h
        exact K5 _ _ e.symm
      · have h := zite_n h c
        refine g_aload_n dX0_ledger_40 0 rfl ?_
        refine gf_r zfd_0_0 q239  (fun _ h9 => h9) dX0_ledger_41 h (fun r13 h => ?_)
        refine gf_rN zfd_1_1 q179  (fun _ h9 => h9) dX0_ledger_44 h (fun r14 h => ?_)
        refine g_bipush (v := (16 : Int32)) dX0_ledger_47 (by decide) ?_
        refine g_iconst (v := (4 : Int32)) dX0_ledger_49 (by decide) ?_
        refine g_iload_n dX0_ledger_50 3 rfl ?_
        refine g_imul dX0_ledger_51 ?_
        refine g_iadd dX0_ledger_52 ?_
        refine g_iconst (v := (1 : Int32)) dX0_ledger_53 (by decide) ?_
        refine g_iadd dX0_ledger_54 ?_
        refine g_iald dX0_ledger_55 h (fun v15 h => ?_)
        refine g_iload_n dX0_ledger_56 1 rfl ?_
        refine g_icmp_ne 64 dX0_ledger_57 (by decide) (fun c => ?_) (fun c => ?_)
        · have h := zite_n h c
          refine g_iconst (v := (0 : Int32)) dX0_ledger_64 (by decide) ?_
          refine g_iadd dX0_ledger_65 ?_
          refine g_leti h (fun v16 h => ?_)
          refine g_istore_n [(2, .int v16), (0, va_rf a0), (1, .int a1), (3, .int v7)] dX0_ledger_66 (by decide) (zf_r (zf_i (zf_i (zf_i zf_0)))) rfl ?_
          refine g_iinc (v := (1 : Int32)) [(2, .int v16), (0, va_rf a0), (1, .int a1)] dX0_ledger_67 3 rfl (by decide) (by decide) (zf_i (zf_r (zf_i (zf_i zf_0)))) rfl h (fun v17 h => ?_)
          refine g_goto 20 dX0_ledger_70 (by decide) ?_
          refine zG.sub [2, 3, 1, 0] rfl ?_
          have e := Option.some.inj h
          exact K5 _ _ e.symm
        · have h := zite_p h c
          refine g_iconst (v := (1 : Int32)) dX0_ledger_60 (by decide) ?_
          refine g_goto 65 dX0_ledger_61 (by decide) ?_
          refine g_iadd dX0_ledger_65 ?_
          refine g_leti h (fun v18 h => ?_)
          refine g_istore_n [(2, .int v18), (0, va_rf a0), (1, .int a1), (3, .int v7)] dX0_ledger_66 (by decide) (zf_r (zf_i (zf_i (zf_i zf_0)))) rfl ?_
          refine g_iinc (v := (1 : Int32)) [(2, .int v18), (0, va_rf a0), (1, .int a1)] dX0_ledger_67 3 rfl (by decide) (by decide) (zf_i (zf_r (zf_i (zf_i zf_0)))) rfl h (fun v19 h => ?_)
          refine g_goto 20 dX0_ledger_70 (by decide) ?_
          refine zG.sub [2, 3, 1, 0] rfl ?_
          have e := Option.some.inj h
          exact K5 _ _ e.symm
  have h := h1
  refine g_icmp_eq 16 dX0_ledger_2 (by decide) (fun c => ?_) (fun c => ?_)
  · have h := zite_p h c
    refine zG.sub [0, 1] rfl ?_
    have e := Option.some.inj h
    exact K1 e.symm
  · have h := zite_n h c
    refine g_aload_n dX0_ledger_5 0 rfl ?_
    refine g_iload_n dX0_ledger_6 1 rfl ?_
    refine g_cVRv (rv := fun x : Int32 => Value.int x) [.int a1] (fun x0 e0 => ok_X0_isKin (xl X) g m a0 a1 x0 e0) zc0 (by decide) (lw_V q893 q895 qs25 q123 q896) rfl hy_X0_isKin rfl ⟨by decide, by decide⟩ rfl zc_0 (by decide) dX0_ledger_7 h (fun v2 h => ?_)
    refine g_if_ne 16 dX0_ledger_10 (by decide) (fun c => ?_) (fun c => ?_)
    · have h := zite_n h c
      refine zG.sub [0, 1] rfl ?_
      have e := Option.some.inj h
      exact K1 e.symm
    · have h := zite_p h c
      refine g_bipush (v := (-2 : Int32)) dX0_ledger_13 (by decide) ?_
      refine g_iret dX0_ledger_15 hxt ?_
      have e := Option.some.inj h
      have e := hl1 _ e.symm
      exact Kret _ e
/-! QuiverKin.image -/
def f_X0_image (g : zGd) (m : zMm) (a0 : Option Nat) : Option (Int32 × zMm) :=
(zgr g m 0 1 a0).bind fun r1 =>
(zgr g m 0 0 a0).bind fun r2 =>
(zrc g 1 r1 (f_X1_be g m r1 r2)).bind fun m3 =>
(zgr g m3 0 0 a0).bind fun r4 =>
(zgr g m3 1 1 r4).bind fun r5 =>
(zald 101 g m3 r5 (0 : Int32)).bind fun v6 =>
some ((v6, m3))
theorem hy_X0_image : zHy yX0_image 0 := ⟨by decide, by decide, by decide +kernel⟩
set_option maxHeartbeats 4000000 in
theorem ok_X0_image (l : Launch) (g : zGd) (m : zMm) (a0 : Option Nat) (z0 : Int32) (m0 : zMm) (h : f_X0_image g m a0 = some (z0, m0)) : zCT l yX0_image cX0_image 1 (some .int) 4 104 g m [va_rf a0] (some (.int z0)) g m0 := by
  refine zCT.of (own := "QuiverKin") (mn := "image") (by decide +kernel) rfl rfl (zla_r zla_0) (zls_r zls_0) (by decide) (fun X hxl hxg hxf hxt hxr hxn => ?_)
  have Kret : ∀ (y0 : Int32) (y1 : zMm), (y0, y1) = (z0, m0) → zRe X g y1 (some (.int y0)) := by
    intro y0 y1 e; cases e; exact ⟨hxf, hxr, hxn⟩
  subst hxl
  show zG X cX0_image 1 "QuiverKin" "image" 4 104 0 [(0, va_rf a0)] [] g m
  unfold f_X0_image at h
  refine g_aload_n dX0_image_0 0 rfl ?_
  refine gf_r zfd_0_1 q240  (fun _ h9 => h9) dX0_image_1 h (fun r1 h => ?_)
  refine g_aload_n dX0_image_4 0 rfl ?_
  refine gf_r zfd_0_0 q239  (fun _ h9 => h9) dX0_image_5 h (fun r2 h => ?_)
  refine g_cVMn [va_rf r2] (fun m0 e0 => ok_X1_be (xl X) g m r1 r2 m0 e0) zc1 (by decide) (lw_V q226 q227 q228 q124 q229) rfl hy_X1_be rfl ⟨by decide, by decide⟩ rfl zc_0 (by decide) dX0_image_8 h (fun m3 h => ?_)
  refine g_aload_n dX0_image_11 0 rfl ?_
  refine gf_r zfd_0_0 q239  (fun _ h9 => h9) dX0_image_12 h (fun r4 h => ?_)
  refine gf_rN zfd_1_1 q179  (fun _ h9 => h9) dX0_image_15 h (fun r5 h => ?_)
  refine g_iconst (v := (0 : Int32)) dX0_image_18 (by decide) ?_
  refine g_iald dX0_image_19 h (fun v6 h => ?_)
  refine g_iret dX0_image_20 hxt ?_
  have e := Option.some.inj h
  exact Kret _ _ e
/-! QuiverKin.back -/
def f_X0_back (g : zGd) (m : zMm) (a0 : Option Nat) : Option (Int32 × zMm) :=
(zgr g m 0 0 a0).bind fun r1 =>
(zgr g m 0 1 a0).bind fun r2 =>
(zrc g 1 r1 (f_X1_be g m r1 r2)).bind fun m3 =>
(zgr g m3 0 0 a0).bind fun r4 =>
(zgr g m3 1 1 r4).bind fun r5 =>
(zald 101 g m3 r5 (0 : Int32)).bind fun v6 =>
some ((v6, m3))
theorem hy_X0_back : zHy yX0_back 0 := ⟨by decide, by decide, by decide +kernel⟩
set_option maxHeartbeats 4000000 in
theorem ok_X0_back (l : Launch) (g : zGd) (m : zMm) (a0 : Option Nat) (z0 : Int32) (m0 : zMm) (h : f_X0_back g m a0 = some (z0, m0)) : zCT l yX0_back cX0_back 1 (some .int) 4 104 g m [va_rf a0] (some (.int z0)) g m0 := by
  refine zCT.of (own := "QuiverKin") (mn := "back") (by decide +kernel) rfl rfl (zla_r zla_0) (zls_r zls_0) (by decide) (fun X hxl hxg hxf hxt hxr hxn => ?_)
  have Kret : ∀ (y0 : Int32) (y1 : zMm), (y0, y1) = (z0, m0) → zRe X g y1 (some (.int y0)) := by
    intro y0 y1 e; cases e; exact ⟨hxf, hxr, hxn⟩
  subst hxl
  show zG X cX0_back 1 "QuiverKin" "back" 4 104 0 [(0, va_rf a0)] [] g m
  unfold f_X0_back at h
  refine g_aload_n dX0_back_0 0 rfl ?_
  refine gf_r zfd_0_0 q239  (fun _ h9 => h9) dX0_back_1 h (fun r1 h => ?_)
  refine g_aload_n dX0_back_4 0 rfl ?_
  refine gf_r zfd_0_1 q240  (fun _ h9 => h9) dX0_back_5 h (fun r2 h => ?_)
  refine g_cVMn [va_rf r2] (fun m0 e0 => ok_X1_be (xl X) g m r1 r2 m0 e0) zc1 (by decide) (lw_V q226 q227 q228 q124 q229) rfl hy_X1_be rfl ⟨by decide, by decide⟩ rfl zc_0 (by decide) dX0_back_8 h (fun m3 h => ?_)
  refine g_aload_n dX0_back_11 0 rfl ?_
  refine gf_r zfd_0_0 q239  (fun _ h9 => h9) dX0_back_12 h (fun r4 h => ?_)
  refine gf_rN zfd_1_1 q179  (fun _ h9 => h9) dX0_back_15 h (fun r5 h => ?_)
  refine g_iconst (v := (0 : Int32)) dX0_back_18 (by decide) ?_
  refine g_iald dX0_back_19 h (fun v6 h => ?_)
  refine g_iret dX0_back_20 hxt ?_
  have e := Option.some.inj h
  exact Kret _ _ e
/-! QuiverKin.about -/
def f_X0_about (g : zGd) (m : zMm) (a0 : Option Nat) (a1 : Int32) : Option (Int32) :=
if a1 = (0 : Int32) then ((zrc g 0 a0 (f_X0_many g m a0)).bind fun v1 =>
some (v1))
else if a1 = (1 : Int32) then ((zgr g m 0 0 a0).bind fun r2 =>
(zgr g m 1 0 r2).bind fun r3 =>
(zald 101 g m r3 (1 : Int32)).bind fun v4 =>
some (v4))
else if a1 = (2 : Int32) then ((zgr g m 0 0 a0).bind fun r5 =>
(zgr g m 1 0 r5).bind fun r6 =>
(zald 101 g m r6 (2 : Int32)).bind fun v7 =>
some (v7))
else if a1 = (3 : Int32) then ((zgr g m 0 0 a0).bind fun r8 =>
(zgr g m 1 0 r8).bind fun r9 =>
(zald 101 g m r9 (3 : Int32)).bind fun v10 =>
some (v10))
else if a1 = (4 : Int32) then ((zgr g m 0 0 a0).bind fun r11 =>
(zgr g m 1 0 r11).bind fun r12 =>
(zald 101 g m r12 (4 : Int32)).bind fun v13 =>
some (v13))
else if a1 = (5 : Int32) then ((zgr g m 0 0 a0).bind fun r14 =>
(zgr g m 1 0 r14).bind fun r15 =>
(zald 101 g m r15 (5 : Int32)).bind fun v16 =>
some (v16))
else if a1 = (6 : Int32) then ((zgr g m 0 0 a0).bind fun r17 =>
(zgr g m 1 0 r17).bind fun r18 =>
(zald 101 g m r18 (6 : Int32)).bind fun v19 =>
some (v19))
else if a1 = (7 : Int32) then ((zgi g m 0 3 a0).bind fun v20 =>
some (v20))
else (some ((-2 : Int32)))
theorem hy_X0_about : zHy yX0_about 1 := ⟨by decide, by decide, by decide +kernel⟩
set_option maxHeartbeats 4000000 in
theorem ok_X0_about (l : Launch) (g : zGd) (m : zMm) (a0 : Option Nat) (a1 : Int32) (z0 : Int32) (h : f_X0_about g m a0 a1 = some z0) : zCT l yX0_about cX0_about 2 (some .int) 2 40 g m [va_rf a0, .int a1] (some (.int z0)) g m := by
  refine zCT.of (own := "QuiverKin") (mn := "about") (by decide +kernel) rfl rfl (zla_r (zla_i zla_0)) (zls_r (zls_i zls_0)) (by decide) (fun X hxl hxg hxf hxt hxr hxn => ?_)
  have Kret : ∀ (y0 : Int32), y0 = z0 → zRe X g m (some (.int y0)) := by
    intro y0 e; cases e; exact ⟨hxf, hxr, hxn⟩
  subst hxl
  show zG X cX0_about 2 "QuiverKin" "about" 2 40 0 [(0, va_rf a0), (1, .int a1)] [] g m
  unfold f_X0_about at h
  refine g_iload_n dX0_about_0 1 rfl ?_
  rcases Decidable.em (a1 = (0 : Int32)) with c | c0
  · have h := zite_p h c
    refine g_tsw (v := (0 : Int32)) (off := 47) 48 dX0_about_1 c (by decide) (by decide) (by decide) (by decide) ?_
    refine g_aload_n dX0_about_48 0 rfl ?_
    refine g_cVRv (rv := fun x : Int32 => Value.int x) [] (fun x0 e0 => ok_X0_many (xl X) g m a0 x0 e0) zc0 (by decide) (lw_V q308 q310 qs0 q123 q311) rfl hy_X0_many rfl ⟨by decide, by decide⟩ rfl zc_0 (by decide) dX0_about_49 h (fun v1 h => ?_)
    refine g_iret dX0_about_52 hxt ?_
    have e := Option.some.inj h
    exact Kret _ e
  have h := zite_n h c0
  rcases Decidable.em (a1 = (1 : Int32)) with c | c1
  · have h := zite_p h c
    refine g_tsw (v := (1 : Int32)) (off := 52) 53 dX0_about_1 c (by decide) (by decide) (by decide) (by decide) ?_
    refine g_aload_n dX0_about_53 0 rfl ?_
    refine gf_r zfd_0_0 q239  (fun _ h9 => h9) dX0_about_54 h (fun r2 h => ?_)
    refine gf_rN zfd_1_0 q177  (fun _ h9 => h9) dX0_about_57 h (fun r3 h => ?_)
    refine g_iconst (v := (1 : Int32)) dX0_about_60 (by decide) ?_
    refine g_iald dX0_about_61 h (fun v4 h => ?_)
    refine g_iret dX0_about_62 hxt ?_
    have e := Option.some.inj h
    exact Kret _ e
  have h := zite_n h c1
  rcases Decidable.em (a1 = (2 : Int32)) with c | c2
  · have h := zite_p h c
    refine g_tsw (v := (2 : Int32)) (off := 62) 63 dX0_about_1 c (by decide) (by decide) (by decide) (by decide) ?_
    refine g_aload_n dX0_about_63 0 rfl ?_
    refine gf_r zfd_0_0 q239  (fun _ h9 => h9) dX0_about_64 h (fun r5 h => ?_)
    refine gf_rN zfd_1_0 q177  (fun _ h9 => h9) dX0_about_67 h (fun r6 h => ?_)
    refine g_iconst (v := (2 : Int32)) dX0_about_70 (by decide) ?_
    refine g_iald dX0_about_71 h (fun v7 h => ?_)
    refine g_iret dX0_about_72 hxt ?_
    have e := Option.some.inj h
    exact Kret _ e
  have h := zite_n h c2
  rcases Decidable.em (a1 = (3 : Int32)) with c | c3
  · have h := zite_p h c
    refine g_tsw (v := (3 : Int32)) (off := 72) 73 dX0_about_1 c (by decide) (by decide) (by decide) (by decide) ?_
    refine g_aload_n dX0_about_73 0 rfl ?_
    refine gf_r zfd_0_0 q239  (fun _ h9 => h9) dX0_about_74 h (fun r8 h => ?_)
    refine gf_rN zfd_1_0 q177  (fun _ h9 => h9) dX0_about_77 h (fun r9 h => ?_)
    refine g_iconst (v := (3 : Int32)) dX0_about_80 (by decide) ?_
    refine g_iald dX0_about_81 h (fun v10 h => ?_)
    refine g_iret dX0_about_82 hxt ?_
    have e := Option.some.inj h
    exact Kret _ e
  have h := zite_n h c3
  rcases Decidable.em (a1 = (4 : Int32)) with c | c4
  · have h := zite_p h c
    refine g_tsw (v := (4 : Int32)) (off := 82) 83 dX0_about_1 c (by decide) (by decide) (by decide) (by decide) ?_
    refine g_aload_n dX0_about_83 0 rfl ?_
    refine gf_r zfd_0_0 q239  (fun _ h9 => h9) dX0_about_84 h (fun r11 h => ?_)
    refine gf_rN zfd_1_0 q177  (fun _ h9 => h9) dX0_about_87 h (fun r12 h => ?_)
    refine g_iconst (v := (4 : Int32)) dX0_about_90 (by decide) ?_
    refine g_iald dX0_about_91 h (fun v13 h => ?_)
    refine g_iret dX0_about_92 hxt ?_
    have e := Option.some.inj h
    exact Kret _ e
  have h := zite_n h c4
  rcases Decidable.em (a1 = (5 : Int32)) with c | c5
  · have h := zite_p h c
    refine g_tsw (v := (5 : Int32)) (off := 92) 93 dX0_about_1 c (by decide) (by decide) (by decide) (by decide) ?_
    refine g_aload_n dX0_about_93 0 rfl ?_
    refine gf_r zfd_0_0 q239  (fun _ h9 => h9) dX0_about_94 h (fun r14 h => ?_)
    refine gf_rN zfd_1_0 q177  (fun _ h9 => h9) dX0_about_97 h (fun r15 h => ?_)
    refine g_iconst (v := (5 : Int32)) dX0_about_100 (by decide) ?_
    refine g_iald dX0_about_101 h (fun v16 h => ?_)
    refine g_iret dX0_about_102 hxt ?_
    have e := Option.some.inj h
    exact Kret _ e
  have h := zite_n h c5
  rcases Decidable.em (a1 = (6 : Int32)) with c | c6
  · have h := zite_p h c
    refine g_tsw (v := (6 : Int32)) (off := 102) 103 dX0_about_1 c (by decide) (by decide) (by decide) (by decide) ?_
    refine g_aload_n dX0_about_103 0 rfl ?_
    refine gf_r zfd_0_0 q239  (fun _ h9 => h9) dX0_about_104 h (fun r17 h => ?_)
    refine gf_rN zfd_1_0 q177  (fun _ h9 => h9) dX0_about_107 h (fun r18 h => ?_)
    refine g_bipush (v := (6 : Int32)) dX0_about_110 (by decide) ?_
    refine g_iald dX0_about_112 h (fun v19 h => ?_)
    refine g_iret dX0_about_113 hxt ?_
    have e := Option.some.inj h
    exact Kret _ e
  have h := zite_n h c6
  rcases Decidable.em (a1 = (7 : Int32)) with c | c7
  · have h := zite_p h c
    refine g_tsw (v := (7 : Int32)) (off := 113) 114 dX0_about_1 c (by decide) (by decide) (by decide) (by decide) ?_
    refine g_aload_n dX0_about_114 0 rfl ?_
    refine gf_i zfd_0_3 q242  (fun _ h9 => h9) dX0_about_115 h (fun v20 h => ?_)
    refine g_iret dX0_about_118 hxt ?_
    have e := Option.some.inj h
    exact Kret _ e
  have h := zite_n h c7
  refine g_tswG (n := 8) (vs := [(0 : Int32), (1 : Int32), (2 : Int32), (3 : Int32), (4 : Int32), (5 : Int32), (6 : Int32), (7 : Int32)]) 119 dX0_about_1 (List.forall_mem_cons.mpr ⟨c0, List.forall_mem_cons.mpr ⟨c1, List.forall_mem_cons.mpr ⟨c2, List.forall_mem_cons.mpr ⟨c3, List.forall_mem_cons.mpr ⟨c4, List.forall_mem_cons.mpr ⟨c5, List.forall_mem_cons.mpr ⟨c6, List.forall_mem_cons.mpr ⟨c7, fun _ h9 => absurd h9 List.not_mem_nil⟩⟩⟩⟩⟩⟩⟩⟩) (by decide) (by decide) (by decide) ?_
  refine g_bipush (v := (-2 : Int32)) dX0_about_119 (by decide) ?_
  refine g_iret dX0_about_121 hxt ?_
  have e := Option.some.inj h
  exact Kret _ e
