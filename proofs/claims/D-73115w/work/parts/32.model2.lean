/-! methods (printed by gen/run2.py) -/
set_option maxRecDepth 100000
/-! QuiverKinModel.lawClause -/
def f_X2_lawClause (g : zGd) (m : zMm) (a0 : Option Nat) (a1 : Int32) : Option (Int32 × zMm) :=
(zgr g m 2 2 a0).bind fun r1 =>
(zgi g m 2 13 a0).bind fun v2 =>
(zast 101 g m r1 (a1 + (1 : Int32)) v2).bind fun m3 =>
(zrc g 2 a0 (f_X2_summed g m3 a0)).bind fun (v4, m5) =>
(zgr g m5 2 2 a0).bind fun r6 =>
(zgi g m5 2 13 a0).bind fun v7 =>
(zast 101 g m5 r6 (a1 + (2 : Int32)) v7).bind fun m8 =>
some ((v4, m8))
theorem hy_X2_lawClause : zHy yX2_lawClause 1 := ⟨by decide, by decide, by decide +kernel⟩
set_option maxHeartbeats 4000000 in
theorem ok_X2_lawClause (l : Launch) (g : zGd) (m : zMm) (a0 : Option Nat) (a1 : Int32) (z0 : Int32) (m0 : zMm) (h : f_X2_lawClause g m a0 a1 = some (z0, m0)) : zCT l yX2_lawClause cX2_lawClause 3 (some .int) 9 197 g m [va_rf a0, .int a1] (some (.int z0)) g m0 := by
  refine zCT.of (own := "QuiverKinModel") (mn := "lawClause") (by decide +kernel) rfl rfl (zla_r (zla_i zla_0)) (zls_r (zls_i zls_0)) (by decide) (fun X hxl hxg hxf hxt hxr hxn => ?_)
  have Kret : ∀ (y0 : Int32) (y1 : zMm), (y0, y1) = (z0, m0) → zRe X g y1 (some (.int y0)) := by
    intro y0 y1 e; cases e; exact ⟨hxf, hxr, hxn⟩
  subst hxl
  show zG X cX2_lawClause 3 "QuiverKinModel" "lawClause" 9 197 0 [(0, va_rf a0), (1, .int a1)] [] g m
  unfold f_X2_lawClause at h
  refine g_aload_n dX2_lawClause_0 0 rfl ?_
  refine gf_r zfd_2_2 q1412  (fun _ h9 => h9) dX2_lawClause_1 h (fun r1 h => ?_)
  refine g_iload_n dX2_lawClause_4 1 rfl ?_
  refine g_iconst (v := (1 : Int32)) dX2_lawClause_5 (by decide) ?_
  refine g_iadd dX2_lawClause_6 ?_
  refine g_aload_n dX2_lawClause_7 0 rfl ?_
  refine gf_i zfd_2_13 q1423  (fun _ h9 => h9) dX2_lawClause_8 h (fun v2 h => ?_)
  refine g_iast dX2_lawClause_11 h (fun m3 h => ?_)
  refine g_aload_n dX2_lawClause_12 0 rfl ?_
  refine g_cVMv (rv := fun x : Int32 => Value.int x) [] (fun x0 m0 e0 => ok_X2_summed (xl X) g m3 a0 x0 m0 e0) zc2 (by decide) (lw_V q1638 q1640 qs68 q126 q1641) rfl hy_X2_summed rfl ⟨by decide, by decide⟩ rfl zc_0 (by decide) dX2_lawClause_13 h (fun v4 m5 h => ?_)
  refine g_istore_n [(2, .int v4), (0, va_rf a0), (1, .int a1)] dX2_lawClause_16 (by decide) (zf_r (zf_i zf_0)) rfl ?_
  refine g_aload_n dX2_lawClause_17 1 rfl ?_
  refine gf_r zfd_2_2 q1412  (fun _ h9 => h9) dX2_lawClause_18 h (fun r6 h => ?_)
  refine g_iload_n dX2_lawClause_21 2 rfl ?_
  refine g_iconst (v := (2 : Int32)) dX2_lawClause_22 (by decide) ?_
  refine g_iadd dX2_lawClause_23 ?_
  refine g_aload_n dX2_lawClause_24 1 rfl ?_
  refine gf_i zfd_2_13 q1423  (fun _ h9 => h9) dX2_lawClause_25 h (fun v7 h => ?_)
  refine g_iast dX2_lawClause_28 h (fun m8 h => ?_)
  refine g_iload_n dX2_lawClause_29 0 rfl ?_
  refine g_iret dX2_lawClause_30 hxt ?_
  have e := Option.some.inj h
  exact Kret _ _ e
/-! QuiverKinModel.pair -/
def f_X2_pair (g : zGd) (m : zMm) (a0 : Option Nat) (a1 : Int32) (a2 : Int32) (a3 : Int64) (a5 : Int32) (a6 : Int32) : Option (Int32 × zMm) :=
(zrc g 2 a0 (f_X2_figure g m a0 (a1 + (1 : Int32)) (0 : Int32) a2)).bind fun (v1, m2) =>
if v1 = 0 then ((zrc g 2 a0 (f_X2_isWord g m2 a0 a3)).bind fun v3 =>
if v3 = 0 then (some (((1 : Int32), m2)))
else ((zrc g 2 a0 (f_X2_nextToken g m2 a0)).bind fun m4 =>
(zrc g 2 a0 (f_X2_figure g m4 a0 (a1 + (2 : Int32)) a5 a6)).bind fun (v5, m6) =>
some ((v5, m6))))
else (some ((v1, m2)))
theorem hy_X2_pair : zHy yX2_pair 5 := ⟨by decide, by decide, by decide +kernel⟩
set_option maxHeartbeats 4000000 in
theorem ok_X2_pair (l : Launch) (g : zGd) (m : zMm) (a0 : Option Nat) (a1 : Int32) (a2 : Int32) (a3 : Int64) (a5 : Int32) (a6 : Int32) (z0 : Int32) (m0 : zMm) (h : f_X2_pair g m a0 a1 a2 a3 a5 a6 = some (z0, m0)) : zCT l yX2_pair cX2_pair 8 (some .int) 4 85 g m [va_rf a0, .int a1, .int a2, .long a3, .int a5, .int a6] (some (.int z0)) g m0 := by
  refine zCT.of (own := "QuiverKinModel") (mn := "pair") (by decide +kernel) rfl rfl (zla_r (zla_i (zla_i (zla_l (zla_i (zla_i zla_0)))))) (zls_r (zls_i (zls_i (zls_l (zls_i (zls_i zls_0)))))) (by decide) (fun X hxl hxg hxf hxt hxr hxn => ?_)
  have Kret : ∀ (y0 : Int32) (y1 : zMm), (y0, y1) = (z0, m0) → zRe X g y1 (some (.int y0)) := by
    intro y0 y1 e; cases e; exact ⟨hxf, hxr, hxn⟩
  subst hxl
  show zG X cX2_pair 8 "QuiverKinModel" "pair" 4 85 0 [(0, va_rf a0), (1, .int a1), (2, .int a2), (3, .long a3), (5, .int a5), (6, .int a6)] [] g m
  unfold f_X2_pair at h
  refine g_aload_n dX2_pair_0 0 rfl ?_
  refine g_iload_n dX2_pair_1 1 rfl ?_
  refine g_iconst (v := (1 : Int32)) dX2_pair_2 (by decide) ?_
  refine g_iadd dX2_pair_3 ?_
  refine g_iconst (v := (0 : Int32)) dX2_pair_4 (by decide) ?_
  refine g_iload_n dX2_pair_5 2 rfl ?_
  refine g_cVMv (rv := fun x : Int32 => Value.int x) [.int (a1 + (1 : Int32)), .int (0 : Int32), .int a2] (fun x0 m0 e0 => ok_X2_figure (xl X) g m a0 (a1 + (1 : Int32)) (0 : Int32) a2 x0 m0 e0) zc2 (by decide) (lw_V q1630 q1632 qs66 q126 q1633) rfl hy_X2_figure rfl ⟨by decide, by decide⟩ rfl zc_0 (by decide) dX2_pair_6 h (fun v1 m2 h => ?_)
  refine g_istore [(7, .int v1), (0, va_rf a0), (1, .int a1), (2, .int a2), (3, .long a3), (5, .int a5), (6, .int a6)] dX2_pair_9 (by decide) (zf_r (zf_i (zf_i (zf_l (zf_i (zf_i zf_0)))))) rfl ?_
  refine g_iload dX2_pair_11 0 rfl ?_
  refine g_if_eq 19 dX2_pair_13 (by decide) (fun c => ?_) (fun c => ?_)
  · have h := zite_p h c
    refine g_aload_n dX2_pair_19 1 rfl ?_
    refine g_lload_n dX2_pair_20 4 rfl ?_
    refine g_cVRv (rv := fun x : Int32 => Value.int x) [.long a3] (fun x0 e0 => ok_X2_isWord (xl X) g m2 a0 a3 x0 e0) zc2 (by decide) (lw_V q1612 q1614 qs63 q126 q1615) rfl hy_X2_isWord rfl ⟨by decide, by decide⟩ rfl zc_0 (by decide) dX2_pair_21 h (fun v3 h => ?_)
    refine g_if_ne 29 dX2_pair_24 (by decide) (fun c => ?_) (fun c => ?_)
    · have h := zite_n h c
      refine g_aload_n dX2_pair_29 1 rfl ?_
      refine g_cVMn [] (fun m0 e0 => ok_X2_nextToken (xl X) g m2 a0 m0 e0) zc2 (by decide) (lw_V q1569 q1571 qs58 q126 q1572) rfl hy_X2_nextToken rfl ⟨by decide, by decide⟩ rfl zc_0 (by decide) dX2_pair_30 h (fun m4 h => ?_)
      refine g_aload_n dX2_pair_33 1 rfl ?_
      refine g_iload_n dX2_pair_34 2 rfl ?_
      refine g_iconst (v := (2 : Int32)) dX2_pair_35 (by decide) ?_
      refine g_iadd dX2_pair_36 ?_
      refine g_iload dX2_pair_37 5 rfl ?_
      refine g_iload dX2_pair_39 6 rfl ?_
      refine g_cVMv (rv := fun x : Int32 => Value.int x) [.int (a1 + (2 : Int32)), .int a5, .int a6] (fun x0 m0 e0 => ok_X2_figure (xl X) g m4 a0 (a1 + (2 : Int32)) a5 a6 x0 m0 e0) zc2 (by decide) (lw_V q1630 q1632 qs66 q126 q1633) rfl hy_X2_figure rfl ⟨by decide, by decide⟩ rfl zc_0 (by decide) dX2_pair_41 h (fun v5 m6 h => ?_)
      refine g_iret dX2_pair_44 hxt ?_
      have e := Option.some.inj h
      exact Kret _ _ e
    · have h := zite_p h c
      refine g_iconst (v := (1 : Int32)) dX2_pair_27 (by decide) ?_
      refine g_iret dX2_pair_28 hxt ?_
      have e := Option.some.inj h
      exact Kret _ _ e
  · have h := zite_n h c
    refine g_iload dX2_pair_16 0 rfl ?_
    refine g_iret dX2_pair_18 hxt ?_
    have e := Option.some.inj h
    exact Kret _ _ e
/-! QuiverKinModel.body -/
def f_X2_body (g : zGd) (m : zMm) (a0 : Option Nat) (a1 : Int32) (a2 : Int32) : Option (Int32 × zMm) :=
if a1 = (2 : Int32) then ((f_X2_w4 (107 : Int32) (101 : Int32) (112 : Int32) (116 : Int32)).bind fun w1 =>
(zrc g 2 a0 (f_X2_pair g m a0 a2 (9 : Int32) w1 (0 : Int32) (99 : Int32))).bind fun (v2, m3) =>
some ((v2, m3)))
else if a1 = (3 : Int32) then ((zrc g 2 a0 (f_X2_figure g m a0 (a2 + (1 : Int32)) (0 : Int32) (5 : Int32))).bind fun (v4, m5) =>
some ((v4, m5)))
else if a1 = (4 : Int32) then ((f_X2_w2 (98 : Int32) (121 : Int32)).bind fun w6 =>
(zrc g 2 a0 (f_X2_pair g m a0 a2 (5 : Int32) w6 (1 : Int32) (99 : Int32))).bind fun (v7, m8) =>
some ((v7, m8)))
else if a1 = (5 : Int32) then ((zrc g 2 a0 (f_X2_figure g m a0 (a2 + (1 : Int32)) (0 : Int32) (5 : Int32))).bind fun (v9, m10) =>
some ((v9, m10)))
else if a1 = (6 : Int32) then ((f_X2_w4 (119 : Int32) (105 : Int32) (116 : Int32) (104 : Int32)).bind fun w11 =>
(zrc g 2 a0 (f_X2_pair g m a0 a2 (5 : Int32) w11 (0 : Int32) (5 : Int32))).bind fun (v12, m13) =>
some ((v12, m13)))
else if a1 = (7 : Int32) then ((zrc g 2 a0 (f_X2_figure g m a0 (a2 + (1 : Int32)) (1 : Int32) (60 : Int32))).bind fun (v14, m15) =>
some ((v14, m15)))
else ((zrc g 2 a0 (f_X2_lawClause g m a0 a2)).bind fun (v16, m17) =>
some ((v16, m17)))
theorem hy_X2_body : zHy yX2_body 2 := ⟨by decide, by decide, by decide +kernel⟩
set_option maxHeartbeats 4000000 in
theorem ok_X2_body (l : Launch) (g : zGd) (m : zMm) (a0 : Option Nat) (a1 : Int32) (a2 : Int32) (z0 : Int32) (m0 : zMm) (h : f_X2_body g m a0 a1 a2 = some (z0, m0)) : zCT l yX2_body cX2_body 3 (some .int) 10 219 g m [va_rf a0, .int a1, .int a2] (some (.int z0)) g m0 := by
  refine zCT.of (own := "QuiverKinModel") (mn := "body") (by decide +kernel) rfl rfl (zla_r (zla_i (zla_i zla_0))) (zls_r (zls_i (zls_i zls_0))) (by decide) (fun X hxl hxg hxf hxt hxr hxn => ?_)
  have Kret : ∀ (y0 : Int32) (y1 : zMm), (y0, y1) = (z0, m0) → zRe X g y1 (some (.int y0)) := by
    intro y0 y1 e; cases e; exact ⟨hxf, hxr, hxn⟩
  subst hxl
  show zG X cX2_body 3 "QuiverKinModel" "body" 10 219 0 [(0, va_rf a0), (1, .int a1), (2, .int a2)] [] g m
  unfold f_X2_body at h
  refine g_iload_n dX2_body_0 1 rfl ?_
  rcases Decidable.em (a1 = (2 : Int32)) with c | c2
  · have h := zite_p h c
    refine g_tsw (v := (2 : Int32)) (off := 39) 40 dX2_body_1 c (by decide) (by decide) (by decide) (by decide) ?_
    refine g_aload_n dX2_body_40 0 rfl ?_
    refine g_iload_n dX2_body_41 2 rfl ?_
    refine g_bipush (v := (9 : Int32)) dX2_body_42 (by decide) ?_
    refine g_bipush (v := (107 : Int32)) dX2_body_44 (by decide) ?_
    refine g_bipush (v := (101 : Int32)) dX2_body_46 (by decide) ?_
    refine g_bipush (v := (112 : Int32)) dX2_body_48 (by decide) ?_
    refine g_bipush (v := (116 : Int32)) dX2_body_50 (by decide) ?_
    refine g_cSRv (rv := fun x : Int64 => Value.long x) [.int (107 : Int32), .int (101 : Int32), .int (112 : Int32), .int (116 : Int32)] (fun x0 e0 => ok_X2_w4 (xl X) g m (107 : Int32) (101 : Int32) (112 : Int32) (116 : Int32) x0 e0) (lw_S q1600 q1601 q126 q1602) hy_X2_w4 rfl ⟨by decide, by decide⟩ rfl (zc_i (zc_i (zc_r zc_0))) (by decide) dX2_body_52 h (fun w1 h => ?_)
    refine g_iconst (v := (0 : Int32)) dX2_body_55 (by decide) ?_
    refine g_bipush (v := (99 : Int32)) dX2_body_56 (by decide) ?_
    refine g_cVMv (rv := fun x : Int32 => Value.int x) [.int a2, .int (9 : Int32), .long w1, .int (0 : Int32), .int (99 : Int32)] (fun x0 m0 e0 => ok_X2_pair (xl X) g m a0 a2 (9 : Int32) w1 (0 : Int32) (99 : Int32) x0 m0 e0) zc2 (by decide) (lw_V q1626 q1628 qs65 q126 q1629) rfl hy_X2_pair rfl ⟨by decide, by decide⟩ rfl zc_0 (by decide) dX2_body_58 h (fun v2 m3 h => ?_)
    refine g_iret dX2_body_61 hxt ?_
    have e := Option.some.inj h
    exact Kret _ _ e
  have h := zite_n h c2
  rcases Decidable.em (a1 = (3 : Int32)) with c | c3
  · have h := zite_p h c
    refine g_tsw (v := (3 : Int32)) (off := 61) 62 dX2_body_1 c (by decide) (by decide) (by decide) (by decide) ?_
    refine g_aload_n dX2_body_62 0 rfl ?_
    refine g_iload_n dX2_body_63 2 rfl ?_
    refine g_iconst (v := (1 : Int32)) dX2_body_64 (by decide) ?_
    refine g_iadd dX2_body_65 ?_
    refine g_iconst (v := (0 : Int32)) dX2_body_66 (by decide) ?_
    refine g_iconst (v := (5 : Int32)) dX2_body_67 (by decide) ?_
    refine g_cVMv (rv := fun x : Int32 => Value.int x) [.int (a2 + (1 : Int32)), .int (0 : Int32), .int (5 : Int32)] (fun x0 m0 e0 => ok_X2_figure (xl X) g m a0 (a2 + (1 : Int32)) (0 : Int32) (5 : Int32) x0 m0 e0) zc2 (by decide) (lw_V q1630 q1632 qs66 q126 q1633) rfl hy_X2_figure rfl ⟨by decide, by decide⟩ rfl zc_0 (by decide) dX2_body_68 h (fun v4 m5 h => ?_)
    refine g_iret dX2_body_71 hxt ?_
    have e := Option.some.inj h
    exact Kret _ _ e
  have h := zite_n h c3
  rcases Decidable.em (a1 = (4 : Int32)) with c | c4
  · have h := zite_p h c
    refine g_tsw (v := (4 : Int32)) (off := 71) 72 dX2_body_1 c (by decide) (by decide) (by decide) (by decide) ?_
    refine g_aload_n dX2_body_72 0 rfl ?_
    refine g_iload_n dX2_body_73 2 rfl ?_
    refine g_iconst (v := (5 : Int32)) dX2_body_74 (by decide) ?_
    refine g_bipush (v := (98 : Int32)) dX2_body_75 (by decide) ?_
    refine g_bipush (v := (121 : Int32)) dX2_body_77 (by decide) ?_
    refine g_cSRv (rv := fun x : Int64 => Value.long x) [.int (98 : Int32), .int (121 : Int32)] (fun x0 e0 => ok_X2_w2 (xl X) g m (98 : Int32) (121 : Int32) x0 e0) (lw_S q1606 q1607 q126 q1608) hy_X2_w2 rfl ⟨by decide, by decide⟩ rfl (zc_i (zc_i (zc_r zc_0))) (by decide) dX2_body_79 h (fun w6 h => ?_)
    refine g_iconst (v := (1 : Int32)) dX2_body_82 (by decide) ?_
    refine g_bipush (v := (99 : Int32)) dX2_body_83 (by decide) ?_
    refine g_cVMv (rv := fun x : Int32 => Value.int x) [.int a2, .int (5 : Int32), .long w6, .int (1 : Int32), .int (99 : Int32)] (fun x0 m0 e0 => ok_X2_pair (xl X) g m a0 a2 (5 : Int32) w6 (1 : Int32) (99 : Int32) x0 m0 e0) zc2 (by decide) (lw_V q1626 q1628 qs65 q126 q1629) rfl hy_X2_pair rfl ⟨by decide, by decide⟩ rfl zc_0 (by decide) dX2_body_85 h (fun v7 m8 h => ?_)
    refine g_iret dX2_body_88 hxt ?_
    have e := Option.some.inj h
    exact Kret _ _ e
  have h := zite_n h c4
  rcases Decidable.em (a1 = (5 : Int32)) with c | c5
  · have h := zite_p h c
    refine g_tsw (v := (5 : Int32)) (off := 88) 89 dX2_body_1 c (by decide) (by decide) (by decide) (by decide) ?_
    refine g_aload_n dX2_body_89 0 rfl ?_
    refine g_iload_n dX2_body_90 2 rfl ?_
    refine g_iconst (v := (1 : Int32)) dX2_body_91 (by decide) ?_
    refine g_iadd dX2_body_92 ?_
    refine g_iconst (v := (0 : Int32)) dX2_body_93 (by decide) ?_
    refine g_iconst (v := (5 : Int32)) dX2_body_94 (by decide) ?_
    refine g_cVMv (rv := fun x : Int32 => Value.int x) [.int (a2 + (1 : Int32)), .int (0 : Int32), .int (5 : Int32)] (fun x0 m0 e0 => ok_X2_figure (xl X) g m a0 (a2 + (1 : Int32)) (0 : Int32) (5 : Int32) x0 m0 e0) zc2 (by decide) (lw_V q1630 q1632 qs66 q126 q1633) rfl hy_X2_figure rfl ⟨by decide, by decide⟩ rfl zc_0 (by decide) dX2_body_95 h (fun v9 m10 h => ?_)
    refine g_iret dX2_body_98 hxt ?_
    have e := Option.some.inj h
    exact Kret _ _ e
  have h := zite_n h c5
  rcases Decidable.em (a1 = (6 : Int32)) with c | c6
  · have h := zite_p h c
    refine g_tsw (v := (6 : Int32)) (off := 98) 99 dX2_body_1 c (by decide) (by decide) (by decide) (by decide) ?_
    refine g_aload_n dX2_body_99 0 rfl ?_
    refine g_iload_n dX2_body_100 2 rfl ?_
    refine g_iconst (v := (5 : Int32)) dX2_body_101 (by decide) ?_
    refine g_bipush (v := (119 : Int32)) dX2_body_102 (by decide) ?_
    refine g_bipush (v := (105 : Int32)) dX2_body_104 (by decide) ?_
    refine g_bipush (v := (116 : Int32)) dX2_body_106 (by decide) ?_
    refine g_bipush (v := (104 : Int32)) dX2_body_108 (by decide) ?_
    refine g_cSRv (rv := fun x : Int64 => Value.long x) [.int (119 : Int32), .int (105 : Int32), .int (116 : Int32), .int (104 : Int32)] (fun x0 e0 => ok_X2_w4 (xl X) g m (119 : Int32) (105 : Int32) (116 : Int32) (104 : Int32) x0 e0) (lw_S q1600 q1601 q126 q1602) hy_X2_w4 rfl ⟨by decide, by decide⟩ rfl (zc_i (zc_i (zc_r zc_0))) (by decide) dX2_body_110 h (fun w11 h => ?_)
    refine g_iconst (v := (0 : Int32)) dX2_body_113 (by decide) ?_
    refine g_iconst (v := (5 : Int32)) dX2_body_114 (by decide) ?_
    refine g_cVMv (rv := fun x : Int32 => Value.int x) [.int a2, .int (5 : Int32), .long w11, .int (0 : Int32), .int (5 : Int32)] (fun x0 m0 e0 => ok_X2_pair (xl X) g m a0 a2 (5 : Int32) w11 (0 : Int32) (5 : Int32) x0 m0 e0) zc2 (by decide) (lw_V q1626 q1628 qs65 q126 q1629) rfl hy_X2_pair rfl ⟨by decide, by decide⟩ rfl zc_0 (by decide) dX2_body_115 h (fun v12 m13 h => ?_)
    refine g_iret dX2_body_118 hxt ?_
    have e := Option.some.inj h
    exact Kret _ _ e
  have h := zite_n h c6
  rcases Decidable.em (a1 = (7 : Int32)) with c | c7
  · have h := zite_p h c
    refine g_tsw (v := (7 : Int32)) (off := 118) 119 dX2_body_1 c (by decide) (by decide) (by decide) (by decide) ?_
    refine g_aload_n dX2_body_119 0 rfl ?_
    refine g_iload_n dX2_body_120 2 rfl ?_
    refine g_iconst (v := (1 : Int32)) dX2_body_121 (by decide) ?_
    refine g_iadd dX2_body_122 ?_
    refine g_iconst (v := (1 : Int32)) dX2_body_123 (by decide) ?_
    refine g_bipush (v := (60 : Int32)) dX2_body_124 (by decide) ?_
    refine g_cVMv (rv := fun x : Int32 => Value.int x) [.int (a2 + (1 : Int32)), .int (1 : Int32), .int (60 : Int32)] (fun x0 m0 e0 => ok_X2_figure (xl X) g m a0 (a2 + (1 : Int32)) (1 : Int32) (60 : Int32) x0 m0 e0) zc2 (by decide) (lw_V q1630 q1632 qs66 q126 q1633) rfl hy_X2_figure rfl ⟨by decide, by decide⟩ rfl zc_0 (by decide) dX2_body_126 h (fun v14 m15 h => ?_)
    refine g_iret dX2_body_129 hxt ?_
    have e := Option.some.inj h
    exact Kret _ _ e
  have h := zite_n h c7
  refine g_tswG (n := 6) (vs := [(2 : Int32), (3 : Int32), (4 : Int32), (5 : Int32), (6 : Int32), (7 : Int32)]) 130 dX2_body_1 (List.forall_mem_cons.mpr ⟨c2, List.forall_mem_cons.mpr ⟨c3, List.forall_mem_cons.mpr ⟨c4, List.forall_mem_cons.mpr ⟨c5, List.forall_mem_cons.mpr ⟨c6, List.forall_mem_cons.mpr ⟨c7, fun _ h9 => absurd h9 List.not_mem_nil⟩⟩⟩⟩⟩⟩) (by decide) (by decide) (by decide) ?_
  refine g_aload_n dX2_body_130 0 rfl ?_
  refine g_iload_n dX2_body_131 2 rfl ?_
  refine g_cVMv (rv := fun x : Int32 => Value.int x) [.int a2] (fun x0 m0 e0 => ok_X2_lawClause (xl X) g m a0 a2 x0 m0 e0) zc2 (by decide) (lw_V q1634 q1636 qs67 q126 q1637) rfl hy_X2_lawClause rfl ⟨by decide, by decide⟩ rfl zc_0 (by decide) dX2_body_132 h (fun v16 m17 h => ?_)
  refine g_iret dX2_body_135 hxt ?_
  have e := Option.some.inj h
  exact Kret _ _ e
/-! QuiverKinModel.has -/
def f_X2_has (a0 : Int32) (a1 : Int32) : Option (Int32) :=
if ((zshr a0 a1) &&& (1 : Int32)) = (1 : Int32) then (some ((1 : Int32)))
else (some ((0 : Int32)))
theorem hy_X2_has : zHy yX2_has 2 := ⟨by decide, by decide, by decide +kernel⟩
set_option maxHeartbeats 4000000 in
theorem ok_X2_has (l : Launch) (g : zGd) (m : zMm) (a0 : Int32) (a1 : Int32) (z0 : Int32) (h : f_X2_has a0 a1 = some z0) : zCT l yX2_has cX2_has 2 (some .boolean) 1 20 g m [.int a0, .int a1] (some (.int z0)) g m := by
  refine zCT.of (own := "QuiverKinModel") (mn := "has") (by decide +kernel) rfl rfl (zla_i (zla_i zla_0)) (zls_i (zls_i zls_0)) (by decide) (fun X hxl hxg hxf hxt hxr hxn => ?_)
  have Kret : ∀ (y0 : Int32), y0 = z0 → zRe X g m (some (.int y0)) := by
    intro y0 e; cases e; exact ⟨hxf, hxr, hxn⟩
  subst hxl
  show zG X cX2_has 2 "QuiverKinModel" "has" 1 20 0 [(0, .int a0), (1, .int a1)] [] g m
  unfold f_X2_has at h
  refine g_iload_n dX2_has_0 0 rfl ?_
  refine g_iload_n dX2_has_1 1 rfl ?_
  refine g_ishr dX2_has_2 ?_
  refine g_iconst (v := (1 : Int32)) dX2_has_3 (by decide) ?_
  refine g_iand dX2_has_4 ?_
  refine g_iconst (v := (1 : Int32)) dX2_has_5 (by decide) ?_
  refine g_icmp_ne 13 dX2_has_6 (by decide) (fun c => ?_) (fun c => ?_)
  · have h := zite_n h c
    refine g_iconst (v := (0 : Int32)) dX2_has_13 (by decide) ?_
    refine g_zret dX2_has_14 hxt rfl ?_
    have e := Option.some.inj h
    exact Kret _ e
  · have h := zite_p h c
    refine g_iconst (v := (1 : Int32)) dX2_has_9 (by decide) ?_
    refine g_goto 14 dX2_has_10 (by decide) ?_
    refine g_zret dX2_has_14 hxt rfl ?_
    have e := Option.some.inj h
    exact Kret _ e
/-! QuiverKinModel.isReaches -/
def f_X2_isReaches (g : zGd) (m : zMm) (a0 : Option Nat) : Option (Int32) :=
(zgi g m 2 9 a0).bind fun v1 =>
if v1 = (2 : Int32) then ((zgi g m 2 7 a0).bind fun v2 =>
(zgi g m 2 8 a0).bind fun v3 =>
if (v2 - v3) = (7 : Int32) then ((zgi g m 2 8 a0).bind fun v4 =>
(zrc g 2 a0 (f_X2_byteAt g m a0 v4)).bind fun v5 =>
(zgi g m 2 8 a0).bind fun v6 =>
(zrc g 2 a0 (f_X2_byteAt g m a0 (v6 + (1 : Int32)))).bind fun v7 =>
(zgi g m 2 8 a0).bind fun v8 =>
(zrc g 2 a0 (f_X2_byteAt g m a0 (v8 + (2 : Int32)))).bind fun v9 =>
(zgi g m 2 8 a0).bind fun v10 =>
(zrc g 2 a0 (f_X2_byteAt g m a0 (v10 + (3 : Int32)))).bind fun v11 =>
(f_X2_w4 v5 v7 v9 v11).bind fun w12 =>
(f_X2_w4 (114 : Int32) (101 : Int32) (97 : Int32) (99 : Int32)).bind fun w13 =>
if w12 = w13 then ((zgi g m 2 8 a0).bind fun v14 =>
(zrc g 2 a0 (f_X2_byteAt g m a0 (v14 + (4 : Int32)))).bind fun v15 =>
(zgi g m 2 8 a0).bind fun v16 =>
(zrc g 2 a0 (f_X2_byteAt g m a0 (v16 + (5 : Int32)))).bind fun v17 =>
(zgi g m 2 8 a0).bind fun v18 =>
(zrc g 2 a0 (f_X2_byteAt g m a0 (v18 + (6 : Int32)))).bind fun v19 =>
(f_X2_w3 v15 v17 v19).bind fun w20 =>
(f_X2_w3 (104 : Int32) (101 : Int32) (115 : Int32)).bind fun w21 =>
if w20 = w21 then (some ((1 : Int32)))
else (some ((0 : Int32))))
else (some ((0 : Int32))))
else (some ((0 : Int32))))
else (some ((0 : Int32)))
theorem hy_X2_isReaches : zHy yX2_isReaches 0 := ⟨by decide, by decide, by decide +kernel⟩
set_option maxHeartbeats 4000000 in
theorem ok_X2_isReaches (l : Launch) (g : zGd) (m : zMm) (a0 : Option Nat) (z0 : Int32) (h : f_X2_isReaches g m a0 = some z0) : zCT l yX2_isReaches cX2_isReaches 1 (some .boolean) 4 86 g m [va_rf a0] (some (.int z0)) g m := by
  refine zCT.of (own := "QuiverKinModel") (mn := "isReaches") (by decide +kernel) rfl rfl (zla_r zla_0) (zls_r zls_0) (by decide) (fun X hxl hxg hxf hxt hxr hxn => ?_)
  have Kret : ∀ (y0 : Int32), y0 = z0 → zRe X g m (some (.int y0)) := by
    intro y0 e; cases e; exact ⟨hxf, hxr, hxn⟩
  subst hxl
  show zG X cX2_isReaches 1 "QuiverKinModel" "isReaches" 4 86 0 [(0, va_rf a0)] [] g m
  unfold f_X2_isReaches at h
  refine g_aload_n dX2_isReaches_0 0 rfl ?_
  refine gf_i zfd_2_9 q1419  (fun _ h9 => h9) dX2_isReaches_1 h (fun v1 h => ?_)
  refine g_iconst (v := (2 : Int32)) dX2_isReaches_4 (by decide) ?_
  refine g_icmp_ne 129 dX2_isReaches_5 (by decide) (fun c => ?_) (fun c => ?_)
  · have h := zite_n h c
    refine g_iconst (v := (0 : Int32)) dX2_isReaches_129 (by decide) ?_
    refine g_zret dX2_isReaches_130 hxt rfl ?_
    have e := Option.some.inj h
    exact Kret _ e
  · have h := zite_p h c
    refine g_aload_n dX2_isReaches_8 0 rfl ?_
    refine gf_i zfd_2_7 q1417  (fun _ h9 => h9) dX2_isReaches_9 h (fun v2 h => ?_)
    refine g_aload_n dX2_isReaches_12 0 rfl ?_
    refine gf_i zfd_2_8 q1418  (fun _ h9 => h9) dX2_isReaches_13 h (fun v3 h => ?_)
    refine g_isub dX2_isReaches_16 ?_
    refine g_bipush (v := (7 : Int32)) dX2_isReaches_17 (by decide) ?_
    refine g_icmp_ne 129 dX2_isReaches_19 (by decide) (fun c => ?_) (fun c => ?_)
    · have h := zite_n h c
      refine g_iconst (v := (0 : Int32)) dX2_isReaches_129 (by decide) ?_
      refine g_zret dX2_isReaches_130 hxt rfl ?_
      have e := Option.some.inj h
      exact Kret _ e
    · have h := zite_p h c
      refine g_aload_n dX2_isReaches_22 0 rfl ?_
      refine g_aload_n dX2_isReaches_23 0 rfl ?_
      refine gf_i zfd_2_8 q1418  (fun _ h9 => h9) dX2_isReaches_24 h (fun v4 h => ?_)
      refine g_cVRv (rv := fun x : Int32 => Value.int x) [.int v4] (fun x0 e0 => ok_X2_byteAt (xl X) g m a0 v4 x0 e0) zc2 (by decide) (lw_V q1573 q1575 qs59 q126 q1576) rfl hy_X2_byteAt rfl ⟨by decide, by decide⟩ rfl zc_0 (by decide) dX2_isReaches_27 h (fun v5 h => ?_)
      refine g_aload_n dX2_isReaches_30 0 rfl ?_
      refine g_aload_n dX2_isReaches_31 0 rfl ?_
      refine gf_i zfd_2_8 q1418  (fun _ h9 => h9) dX2_isReaches_32 h (fun v6 h => ?_)
      refine g_iconst (v := (1 : Int32)) dX2_isReaches_35 (by decide) ?_
      refine g_iadd dX2_isReaches_36 ?_
      refine g_cVRv (rv := fun x : Int32 => Value.int x) [.int (v6 + (1 : Int32))] (fun x0 e0 => ok_X2_byteAt (xl X) g m a0 (v6 + (1 : Int32)) x0 e0) zc2 (by decide) (lw_V q1573 q1575 qs59 q126 q1576) rfl hy_X2_byteAt rfl ⟨by decide, by decide⟩ rfl (zc_i zc_0) (by decide) dX2_isReaches_37 h (fun v7 h => ?_)
      refine g_aload_n dX2_isReaches_40 0 rfl ?_
      refine g_aload_n dX2_isReaches_41 0 rfl ?_
      refine gf_i zfd_2_8 q1418  (fun _ h9 => h9) dX2_isReaches_42 h (fun v8 h => ?_)
      refine g_iconst (v := (2 : Int32)) dX2_isReaches_45 (by decide) ?_
      refine g_iadd dX2_isReaches_46 ?_
      refine g_cVRv (rv := fun x : Int32 => Value.int x) [.int (v8 + (2 : Int32))] (fun x0 e0 => ok_X2_byteAt (xl X) g m a0 (v8 + (2 : Int32)) x0 e0) zc2 (by decide) (lw_V q1573 q1575 qs59 q126 q1576) rfl hy_X2_byteAt rfl ⟨by decide, by decide⟩ rfl (zc_i (zc_i zc_0)) (by decide) dX2_isReaches_47 h (fun v9 h => ?_)
      refine g_aload_n dX2_isReaches_50 0 rfl ?_
      refine g_aload_n dX2_isReaches_51 0 rfl ?_
      refine gf_i zfd_2_8 q1418  (fun _ h9 => h9) dX2_isReaches_52 h (fun v10 h => ?_)
      refine g_iconst (v := (3 : Int32)) dX2_isReaches_55 (by decide) ?_
      refine g_iadd dX2_isReaches_56 ?_
      refine g_cVRv (rv := fun x : Int32 => Value.int x) [.int (v10 + (3 : Int32))] (fun x0 e0 => ok_X2_byteAt (xl X) g m a0 (v10 + (3 : Int32)) x0 e0) zc2 (by decide) (lw_V q1573 q1575 qs59 q126 q1576) rfl hy_X2_byteAt rfl ⟨by decide, by decide⟩ rfl (zc_i (zc_i (zc_i zc_0))) (by decide) dX2_isReaches_57 h (fun v11 h => ?_)
      refine g_cSRv (rv := fun x : Int64 => Value.long x) [.int v5, .int v7, .int v9, .int v11] (fun x0 e0 => ok_X2_w4 (xl X) g m v5 v7 v9 v11 x0 e0) (lw_S q1600 q1601 q126 q1602) hy_X2_w4 rfl ⟨by decide, by decide⟩ rfl zc_0 (by decide) dX2_isReaches_60 h (fun w12 h => ?_)
      refine g_bipush (v := (114 : Int32)) dX2_isReaches_63 (by decide) ?_
      refine g_bipush (v := (101 : Int32)) dX2_isReaches_65 (by decide) ?_
      refine g_bipush (v := (97 : Int32)) dX2_isReaches_67 (by decide) ?_
      refine g_bipush (v := (99 : Int32)) dX2_isReaches_69 (by decide) ?_
      refine g_cSRv (rv := fun x : Int64 => Value.long x) [.int (114 : Int32), .int (101 : Int32), .int (97 : Int32), .int (99 : Int32)] (fun x0 e0 => ok_X2_w4 (xl X) g m (114 : Int32) (101 : Int32) (97 : Int32) (99 : Int32) x0 e0) (lw_S q1600 q1601 q126 q1602) hy_X2_w4 rfl ⟨by decide, by decide⟩ rfl (zc_l zc_0) (by decide) dX2_isReaches_71 h (fun w13 h => ?_)
      refine g_lcmp_ne 129 dX2_isReaches_74 dX2_isReaches_75 (by decide) (fun c => ?_) (fun c => ?_)
      · have h := zite_n h c
        refine g_iconst (v := (0 : Int32)) dX2_isReaches_129 (by decide) ?_
        refine g_zret dX2_isReaches_130 hxt rfl ?_
        have e := Option.some.inj h
        exact Kret _ e
      · have h := zite_p h c
        refine g_aload_n dX2_isReaches_78 0 rfl ?_
        refine g_aload_n dX2_isReaches_79 0 rfl ?_
        refine gf_i zfd_2_8 q1418  (fun _ h9 => h9) dX2_isReaches_80 h (fun v14 h => ?_)
        refine g_iconst (v := (4 : Int32)) dX2_isReaches_83 (by decide) ?_
        refine g_iadd dX2_isReaches_84 ?_
        refine g_cVRv (rv := fun x : Int32 => Value.int x) [.int (v14 + (4 : Int32))] (fun x0 e0 => ok_X2_byteAt (xl X) g m a0 (v14 + (4 : Int32)) x0 e0) zc2 (by decide) (lw_V q1573 q1575 qs59 q126 q1576) rfl hy_X2_byteAt rfl ⟨by decide, by decide⟩ rfl zc_0 (by decide) dX2_isReaches_85 h (fun v15 h => ?_)
        refine g_aload_n dX2_isReaches_88 0 rfl ?_
        refine g_aload_n dX2_isReaches_89 0 rfl ?_
        refine gf_i zfd_2_8 q1418  (fun _ h9 => h9) dX2_isReaches_90 h (fun v16 h => ?_)
        refine g_iconst (v := (5 : Int32)) dX2_isReaches_93 (by decide) ?_
        refine g_iadd dX2_isReaches_94 ?_
        refine g_cVRv (rv := fun x : Int32 => Value.int x) [.int (v16 + (5 : Int32))] (fun x0 e0 => ok_X2_byteAt (xl X) g m a0 (v16 + (5 : Int32)) x0 e0) zc2 (by decide) (lw_V q1573 q1575 qs59 q126 q1576) rfl hy_X2_byteAt rfl ⟨by decide, by decide⟩ rfl (zc_i zc_0) (by decide) dX2_isReaches_95 h (fun v17 h => ?_)
        refine g_aload_n dX2_isReaches_98 0 rfl ?_
        refine g_aload_n dX2_isReaches_99 0 rfl ?_
        refine gf_i zfd_2_8 q1418  (fun _ h9 => h9) dX2_isReaches_100 h (fun v18 h => ?_)
        refine g_bipush (v := (6 : Int32)) dX2_isReaches_103 (by decide) ?_
        refine g_iadd dX2_isReaches_105 ?_
        refine g_cVRv (rv := fun x : Int32 => Value.int x) [.int (v18 + (6 : Int32))] (fun x0 e0 => ok_X2_byteAt (xl X) g m a0 (v18 + (6 : Int32)) x0 e0) zc2 (by decide) (lw_V q1573 q1575 qs59 q126 q1576) rfl hy_X2_byteAt rfl ⟨by decide, by decide⟩ rfl (zc_i (zc_i zc_0)) (by decide) dX2_isReaches_106 h (fun v19 h => ?_)
        refine g_cSRv (rv := fun x : Int64 => Value.long x) [.int v15, .int v17, .int v19] (fun x0 e0 => ok_X2_w3 (xl X) g m v15 v17 v19 x0 e0) (lw_S q1603 q1604 q126 q1605) hy_X2_w3 rfl ⟨by decide, by decide⟩ rfl zc_0 (by decide) dX2_isReaches_109 h (fun w20 h => ?_)
        refine g_bipush (v := (104 : Int32)) dX2_isReaches_112 (by decide) ?_
        refine g_bipush (v := (101 : Int32)) dX2_isReaches_114 (by decide) ?_
        refine g_bipush (v := (115 : Int32)) dX2_isReaches_116 (by decide) ?_
        refine g_cSRv (rv := fun x : Int64 => Value.long x) [.int (104 : Int32), .int (101 : Int32), .int (115 : Int32)] (fun x0 e0 => ok_X2_w3 (xl X) g m (104 : Int32) (101 : Int32) (115 : Int32) x0 e0) (lw_S q1603 q1604 q126 q1605) hy_X2_w3 rfl ⟨by decide, by decide⟩ rfl (zc_l zc_0) (by decide) dX2_isReaches_118 h (fun w21 h => ?_)
        refine g_lcmp_ne 129 dX2_isReaches_121 dX2_isReaches_122 (by decide) (fun c => ?_) (fun c => ?_)
        · have h := zite_n h c
          refine g_iconst (v := (0 : Int32)) dX2_isReaches_129 (by decide) ?_
          refine g_zret dX2_isReaches_130 hxt rfl ?_
          have e := Option.some.inj h
          exact Kret _ e
        · have h := zite_p h c
          refine g_iconst (v := (1 : Int32)) dX2_isReaches_125 (by decide) ?_
          refine g_goto 130 dX2_isReaches_126 (by decide) ?_
          refine g_zret dX2_isReaches_130 hxt rfl ?_
          have e := Option.some.inj h
          exact Kret _ e
/-! QuiverKinModel.sortOf -/
def f_X2_sortOf (g : zGd) (m : zMm) (a0 : Option Nat) : Option (Int32) :=
(zrc g 2 a0 (f_X2_isReaches g m a0)).bind fun v1 =>
if v1 = 0 then ((f_X2_w5 (98 : Int32) (101 : Int32) (97 : Int32) (114 : Int32) (115 : Int32)).bind fun w2 =>
(zrc g 2 a0 (f_X2_isWord g m a0 w2)).bind fun v3 =>
if v3 = 0 then ((f_X2_w3 (107 : Int32) (105 : Int32) (110 : Int32)).bind fun w4 =>
(zrc g 2 a0 (f_X2_isWord g m a0 w4)).bind fun v5 =>
if v5 = 0 then ((f_X2_w5 (114 : Int32) (101 : Int32) (97 : Int32) (99 : Int32) (104 : Int32)).bind fun w6 =>
(zrc g 2 a0 (f_X2_isWord g m a0 w6)).bind fun v7 =>
if v7 = 0 then ((f_X2_w4 (100 : Int32) (111 : Int32) (119 : Int32) (110 : Int32)).bind fun w8 =>
(zrc g 2 a0 (f_X2_isWord g m a0 w8)).bind fun v9 =>
if v9 = 0 then ((f_X2_w5 (115 : Int32) (116 : Int32) (114 : Int32) (97 : Int32) (112 : Int32)).bind fun w10 =>
(zrc g 2 a0 (f_X2_isWord g m a0 w10)).bind fun v11 =>
if v11 = 0 then ((f_X2_w4 (115 : Int32) (119 : Int32) (97 : Int32) (112 : Int32)).bind fun w12 =>
(zrc g 2 a0 (f_X2_isWord g m a0 w12)).bind fun v13 =>
if v13 = 0 then ((f_X2_w6 (100 : Int32) (105 : Int32) (110 : Int32) (110 : Int32) (101 : Int32) (114 : Int32)).bind fun w14 =>
(zrc g 2 a0 (f_X2_isWord g m a0 w14)).bind fun v15 =>
if v15 = 0 then (some ((-1 : Int32)))
else (some ((7 : Int32))))
else (some ((6 : Int32))))
else (some ((5 : Int32))))
else (some ((4 : Int32))))
else (some ((3 : Int32))))
else (some ((2 : Int32))))
else (some ((1 : Int32))))
else (some ((0 : Int32)))
theorem hy_X2_sortOf : zHy yX2_sortOf 0 := ⟨by decide, by decide, by decide +kernel⟩
set_option maxHeartbeats 4000000 in
theorem ok_X2_sortOf (l : Launch) (g : zGd) (m : zMm) (a0 : Option Nat) (z0 : Int32) (h : f_X2_sortOf g m a0 = some z0) : zCT l yX2_sortOf cX2_sortOf 1 (some .int) 6 135 g m [va_rf a0] (some (.int z0)) g m := by
  refine zCT.of (own := "QuiverKinModel") (mn := "sortOf") (by decide +kernel) rfl rfl (zla_r zla_0) (zls_r zls_0) (by decide) (fun X hxl hxg hxf hxt hxr hxn => ?_)
  have Kret : ∀ (y0 : Int32), y0 = z0 → zRe X g m (some (.int y0)) := by
    intro y0 e; cases e; exact ⟨hxf, hxr, hxn⟩
  subst hxl
  show zG X cX2_sortOf 1 "QuiverKinModel" "sortOf" 6 135 0 [(0, va_rf a0)] [] g m
  unfold f_X2_sortOf at h
  refine g_aload_n dX2_sortOf_0 0 rfl ?_
  refine g_cVRv (rv := fun x : Int32 => Value.int x) [] (fun x0 e0 => ok_X2_isReaches (xl X) g m a0 x0 e0) zc2 (by decide) (lw_V q1596 q1598 qs62 q126 q1599) rfl hy_X2_isReaches rfl ⟨by decide, by decide⟩ rfl zc_0 (by decide) dX2_sortOf_1 h (fun v1 h => ?_)
  refine g_if_eq 9 dX2_sortOf_4 (by decide) (fun c => ?_) (fun c => ?_)
  · have h := zite_p h c
    refine g_aload_n dX2_sortOf_9 0 rfl ?_
    refine g_bipush (v := (98 : Int32)) dX2_sortOf_10 (by decide) ?_
    refine g_bipush (v := (101 : Int32)) dX2_sortOf_12 (by decide) ?_
    refine g_bipush (v := (97 : Int32)) dX2_sortOf_14 (by decide) ?_
    refine g_bipush (v := (114 : Int32)) dX2_sortOf_16 (by decide) ?_
    refine g_bipush (v := (115 : Int32)) dX2_sortOf_18 (by decide) ?_
    refine g_cSRv (rv := fun x : Int64 => Value.long x) [.int (98 : Int32), .int (101 : Int32), .int (97 : Int32), .int (114 : Int32), .int (115 : Int32)] (fun x0 e0 => ok_X2_w5 (xl X) g m (98 : Int32) (101 : Int32) (97 : Int32) (114 : Int32) (115 : Int32) x0 e0) (lw_S q1609 q1610 q126 q1611) hy_X2_w5 rfl ⟨by decide, by decide⟩ rfl (zc_r zc_0) (by decide) dX2_sortOf_20 h (fun w2 h => ?_)
    refine g_cVRv (rv := fun x : Int32 => Value.int x) [.long w2] (fun x0 e0 => ok_X2_isWord (xl X) g m a0 w2 x0 e0) zc2 (by decide) (lw_V q1612 q1614 qs63 q126 q1615) rfl hy_X2_isWord rfl ⟨by decide, by decide⟩ rfl zc_0 (by decide) dX2_sortOf_23 h (fun v3 h => ?_)
    refine g_if_eq 31 dX2_sortOf_26 (by decide) (fun c => ?_) (fun c => ?_)
    · have h := zite_p h c
      refine g_aload_n dX2_sortOf_31 0 rfl ?_
      refine g_bipush (v := (107 : Int32)) dX2_sortOf_32 (by decide) ?_
      refine g_bipush (v := (105 : Int32)) dX2_sortOf_34 (by decide) ?_
      refine g_bipush (v := (110 : Int32)) dX2_sortOf_36 (by decide) ?_
      refine g_cSRv (rv := fun x : Int64 => Value.long x) [.int (107 : Int32), .int (105 : Int32), .int (110 : Int32)] (fun x0 e0 => ok_X2_w3 (xl X) g m (107 : Int32) (105 : Int32) (110 : Int32) x0 e0) (lw_S q1603 q1604 q126 q1605) hy_X2_w3 rfl ⟨by decide, by decide⟩ rfl (zc_r zc_0) (by decide) dX2_sortOf_38 h (fun w4 h => ?_)
      refine g_cVRv (rv := fun x : Int32 => Value.int x) [.long w4] (fun x0 e0 => ok_X2_isWord (xl X) g m a0 w4 x0 e0) zc2 (by decide) (lw_V q1612 q1614 qs63 q126 q1615) rfl hy_X2_isWord rfl ⟨by decide, by decide⟩ rfl zc_0 (by decide) dX2_sortOf_41 h (fun v5 h => ?_)
      refine g_if_eq 49 dX2_sortOf_44 (by decide) (fun c => ?_) (fun c => ?_)
      · have h := zite_p h c
        refine g_aload_n dX2_sortOf_49 0 rfl ?_
        refine g_bipush (v := (114 : Int32)) dX2_sortOf_50 (by decide) ?_
        refine g_bipush (v := (101 : Int32)) dX2_sortOf_52 (by decide) ?_
        refine g_bipush (v := (97 : Int32)) dX2_sortOf_54 (by decide) ?_
        refine g_bipush (v := (99 : Int32)) dX2_sortOf_56 (by decide) ?_
        refine g_bipush (v := (104 : Int32)) dX2_sortOf_58 (by decide) ?_
        refine g_cSRv (rv := fun x : Int64 => Value.long x) [.int (114 : Int32), .int (101 : Int32), .int (97 : Int32), .int (99 : Int32), .int (104 : Int32)] (fun x0 e0 => ok_X2_w5 (xl X) g m (114 : Int32) (101 : Int32) (97 : Int32) (99 : Int32) (104 : Int32) x0 e0) (lw_S q1609 q1610 q126 q1611) hy_X2_w5 rfl ⟨by decide, by decide⟩ rfl (zc_r zc_0) (by decide) dX2_sortOf_60 h (fun w6 h => ?_)
        refine g_cVRv (rv := fun x : Int32 => Value.int x) [.long w6] (fun x0 e0 => ok_X2_isWord (xl X) g m a0 w6 x0 e0) zc2 (by decide) (lw_V q1612 q1614 qs63 q126 q1615) rfl hy_X2_isWord rfl ⟨by decide, by decide⟩ rfl zc_0 (by decide) dX2_sortOf_63 h (fun v7 h => ?_)
        refine g_if_eq 71 dX2_sortOf_66 (by decide) (fun c => ?_) (fun c => ?_)
        · have h := zite_p h c
          refine g_aload_n dX2_sortOf_71 0 rfl ?_
          refine g_bipush (v := (100 : Int32)) dX2_sortOf_72 (by decide) ?_
          refine g_bipush (v := (111 : Int32)) dX2_sortOf_74 (by decide) ?_
          refine g_bipush (v := (119 : Int32)) dX2_sortOf_76 (by decide) ?_
          refine g_bipush (v := (110 : Int32)) dX2_sortOf_78 (by decide) ?_
          refine g_cSRv (rv := fun x : Int64 => Value.long x) [.int (100 : Int32), .int (111 : Int32), .int (119 : Int32), .int (110 : Int32)] (fun x0 e0 => ok_X2_w4 (xl X) g m (100 : Int32) (111 : Int32) (119 : Int32) (110 : Int32) x0 e0) (lw_S q1600 q1601 q126 q1602) hy_X2_w4 rfl ⟨by decide, by decide⟩ rfl (zc_r zc_0) (by decide) dX2_sortOf_80 h (fun w8 h => ?_)
          refine g_cVRv (rv := fun x : Int32 => Value.int x) [.long w8] (fun x0 e0 => ok_X2_isWord (xl X) g m a0 w8 x0 e0) zc2 (by decide) (lw_V q1612 q1614 qs63 q126 q1615) rfl hy_X2_isWord rfl ⟨by decide, by decide⟩ rfl zc_0 (by decide) dX2_sortOf_83 h (fun v9 h => ?_)
          refine g_if_eq 91 dX2_sortOf_86 (by decide) (fun c => ?_) (fun c => ?_)
          · have h := zite_p h c
            refine g_aload_n dX2_sortOf_91 0 rfl ?_
            refine g_bipush (v := (115 : Int32)) dX2_sortOf_92 (by decide) ?_
            refine g_bipush (v := (116 : Int32)) dX2_sortOf_94 (by decide) ?_
            refine g_bipush (v := (114 : Int32)) dX2_sortOf_96 (by decide) ?_
            refine g_bipush (v := (97 : Int32)) dX2_sortOf_98 (by decide) ?_
            refine g_bipush (v := (112 : Int32)) dX2_sortOf_100 (by decide) ?_
            refine g_cSRv (rv := fun x : Int64 => Value.long x) [.int (115 : Int32), .int (116 : Int32), .int (114 : Int32), .int (97 : Int32), .int (112 : Int32)] (fun x0 e0 => ok_X2_w5 (xl X) g m (115 : Int32) (116 : Int32) (114 : Int32) (97 : Int32) (112 : Int32) x0 e0) (lw_S q1609 q1610 q126 q1611) hy_X2_w5 rfl ⟨by decide, by decide⟩ rfl (zc_r zc_0) (by decide) dX2_sortOf_102 h (fun w10 h => ?_)
            refine g_cVRv (rv := fun x : Int32 => Value.int x) [.long w10] (fun x0 e0 => ok_X2_isWord (xl X) g m a0 w10 x0 e0) zc2 (by decide) (lw_V q1612 q1614 qs63 q126 q1615) rfl hy_X2_isWord rfl ⟨by decide, by decide⟩ rfl zc_0 (by decide) dX2_sortOf_105 h (fun v11 h => ?_)
            refine g_if_eq 113 dX2_sortOf_108 (by decide) (fun c => ?_) (fun c => ?_)
            · have h := zite_p h c
              refine g_aload_n dX2_sortOf_113 0 rfl ?_
              refine g_bipush (v := (115 : Int32)) dX2_sortOf_114 (by decide) ?_
              refine g_bipush (v := (119 : Int32)) dX2_sortOf_116 (by decide) ?_
              refine g_bipush (v := (97 : Int32)) dX2_sortOf_118 (by decide) ?_
              refine g_bipush (v := (112 : Int32)) dX2_sortOf_120 (by decide) ?_
              refine g_cSRv (rv := fun x : Int64 => Value.long x) [.int (115 : Int32), .int (119 : Int32), .int (97 : Int32), .int (112 : Int32)] (fun x0 e0 => ok_X2_w4 (xl X) g m (115 : Int32) (119 : Int32) (97 : Int32) (112 : Int32) x0 e0) (lw_S q1600 q1601 q126 q1602) hy_X2_w4 rfl ⟨by decide, by decide⟩ rfl (zc_r zc_0) (by decide) dX2_sortOf_122 h (fun w12 h => ?_)
              refine g_cVRv (rv := fun x : Int32 => Value.int x) [.long w12] (fun x0 e0 => ok_X2_isWord (xl X) g m a0 w12 x0 e0) zc2 (by decide) (lw_V q1612 q1614 qs63 q126 q1615) rfl hy_X2_isWord rfl ⟨by decide, by decide⟩ rfl zc_0 (by decide) dX2_sortOf_125 h (fun v13 h => ?_)
              refine g_if_eq 136 dX2_sortOf_128 (by decide) (fun c => ?_) (fun c => ?_)
              · have h := zite_p h c
                refine g_aload_n dX2_sortOf_136 0 rfl ?_
                refine g_bipush (v := (100 : Int32)) dX2_sortOf_137 (by decide) ?_
                refine g_bipush (v := (105 : Int32)) dX2_sortOf_139 (by decide) ?_
                refine g_bipush (v := (110 : Int32)) dX2_sortOf_141 (by decide) ?_
                refine g_bipush (v := (110 : Int32)) dX2_sortOf_143 (by decide) ?_
                refine g_bipush (v := (101 : Int32)) dX2_sortOf_145 (by decide) ?_
                refine g_bipush (v := (114 : Int32)) dX2_sortOf_147 (by decide) ?_
                refine g_cSRv (rv := fun x : Int64 => Value.long x) [.int (100 : Int32), .int (105 : Int32), .int (110 : Int32), .int (110 : Int32), .int (101 : Int32), .int (114 : Int32)] (fun x0 e0 => ok_X2_w6 (xl X) g m (100 : Int32) (105 : Int32) (110 : Int32) (110 : Int32) (101 : Int32) (114 : Int32) x0 e0) (lw_S q1616 q1617 q126 q1618) hy_X2_w6 rfl ⟨by decide, by decide⟩ rfl (zc_r zc_0) (by decide) dX2_sortOf_149 h (fun w14 h => ?_)
                refine g_cVRv (rv := fun x : Int32 => Value.int x) [.long w14] (fun x0 e0 => ok_X2_isWord (xl X) g m a0 w14 x0 e0) zc2 (by decide) (lw_V q1612 q1614 qs63 q126 q1615) rfl hy_X2_isWord rfl ⟨by decide, by decide⟩ rfl zc_0 (by decide) dX2_sortOf_152 h (fun v15 h => ?_)
                refine g_if_eq 163 dX2_sortOf_155 (by decide) (fun c => ?_) (fun c => ?_)
                · have h := zite_p h c
                  refine g_iconst (v := (-1 : Int32)) dX2_sortOf_163 (by decide) ?_
                  refine g_iret dX2_sortOf_164 hxt ?_
                  have e := Option.some.inj h
                  exact Kret _ e
                · have h := zite_n h c
                  refine g_bipush (v := (7 : Int32)) dX2_sortOf_158 (by decide) ?_
                  refine g_goto 164 dX2_sortOf_160 (by decide) ?_
                  refine g_iret dX2_sortOf_164 hxt ?_
                  have e := Option.some.inj h
                  exact Kret _ e
              · have h := zite_n h c
                refine g_bipush (v := (6 : Int32)) dX2_sortOf_131 (by decide) ?_
                refine g_goto 164 dX2_sortOf_133 (by decide) ?_
                refine g_iret dX2_sortOf_164 hxt ?_
                have e := Option.some.inj h
                exact Kret _ e
            · have h := zite_n h c
              refine g_iconst (v := (5 : Int32)) dX2_sortOf_111 (by decide) ?_
              refine g_iret dX2_sortOf_112 hxt ?_
              have e := Option.some.inj h
              exact Kret _ e
          · have h := zite_n h c
            refine g_iconst (v := (4 : Int32)) dX2_sortOf_89 (by decide) ?_
            refine g_iret dX2_sortOf_90 hxt ?_
            have e := Option.some.inj h
            exact Kret _ e
        · have h := zite_n h c
          refine g_iconst (v := (3 : Int32)) dX2_sortOf_69 (by decide) ?_
          refine g_iret dX2_sortOf_70 hxt ?_
          have e := Option.some.inj h
          exact Kret _ e
      · have h := zite_n h c
        refine g_iconst (v := (2 : Int32)) dX2_sortOf_47 (by decide) ?_
        refine g_iret dX2_sortOf_48 hxt ?_
        have e := Option.some.inj h
        exact Kret _ e
    · have h := zite_n h c
      refine g_iconst (v := (1 : Int32)) dX2_sortOf_29 (by decide) ?_
      refine g_iret dX2_sortOf_30 hxt ?_
      have e := Option.some.inj h
      exact Kret _ e
  · have h := zite_n h c
    refine g_iconst (v := (0 : Int32)) dX2_sortOf_7 (by decide) ?_
    refine g_iret dX2_sortOf_8 hxt ?_
    have e := Option.some.inj h
    exact Kret _ e
/-! QuiverKinModel.clause -/
def f_X2_clause (g : zGd) (m : zMm) (a0 : Option Nat) : Option (Int32 × zMm) :=
(zrc g 2 a0 (f_X2_sortOf g m a0)).bind fun v1 =>
if 0 ≤ v1 then (zEx (σ := Unit) (if (1 : Int32) < v1 then (some (.inr ()))
else ((zgi g m 2 19 a0).bind fun v3 =>
(f_X2_has v3 v1).bind fun v4 =>
if v4 = 0 then (some (.inr ()))
else (some (.inl (((4 : Int32), m)))))) fun _ =>
(zgr g m 2 2 a0).bind fun r5 =>
(zgi g m 2 12 a0).bind fun v6 =>
(zald 101 g m r5 v6).bind fun v7 =>
if v7 = (24 : Int32) then (some (((6 : Int32), m)))
else (((if (1 : Int32) < v1 then (some (m))
else ((zgi g m 2 19 a0).bind fun v10 =>
(zpi g m 2 19 a0 (v10 ||| (zshl (1 : Int32) v1))).bind fun m11 =>
some (m11)) : Option (zMm))).bind fun m9 =>
(zpi g m9 2 14 a0 v1).bind fun m12 =>
(zrc g 2 a0 (f_X2_nextToken g m12 a0)).bind fun m13 =>
(zgi g m13 2 12 a0).bind fun v14 =>
zlt ((v14 + (1 : Int32)) + ((3 : Int32) * v7)) fun v15 =>
(zgr g m13 2 2 a0).bind fun r16 =>
(zast 101 g m13 r16 v15 v1).bind fun m17 =>
(zrc g 2 a0 (f_X2_body g m17 a0 v1 v15)).bind fun (v18, m19) =>
if v18 = 0 then ((zgr g m19 2 2 a0).bind fun r20 =>
(zgi g m19 2 12 a0).bind fun v21 =>
(zald 101 g m19 r20 v21).bind fun v22 =>
(zast 101 g m19 r20 v21 (v22 + (1 : Int32))).bind fun m23 =>
(zgi g m23 2 9 a0).bind fun v24 =>
if v24 = (59 : Int32) then ((zrc g 2 a0 (f_X2_nextToken g m23 a0)).bind fun m25 =>
some (((0 : Int32), m25)))
else (some (((1 : Int32), m23))))
else (some ((v18, m19)))))
else (some (((1 : Int32), m)))
theorem hy_X2_clause : zHy yX2_clause 0 := ⟨by decide, by decide, by decide +kernel⟩
set_option maxHeartbeats 4000000 in
theorem ok_X2_clause (l : Launch) (g : zGd) (m : zMm) (a0 : Option Nat) (z0 : Int32) (m0 : zMm) (h : f_X2_clause g m a0 = some (z0, m0)) : zCT l yX2_clause cX2_clause 5 (some .int) 11 241 g m [va_rf a0] (some (.int z0)) g m0 := by
  refine zCT.of (own := "QuiverKinModel") (mn := "clause") (by decide +kernel) rfl rfl (zla_r zla_0) (zls_r zls_0) (by decide) (fun X hxl hxg hxf hxt hxr hxn => ?_)
  have Kret : ∀ (y0 : Int32) (y1 : zMm), (y0, y1) = (z0, m0) → zRe X g y1 (some (.int y0)) := by
    intro y0 y1 e; cases e; exact ⟨hxf, hxr, hxn⟩
  subst hxl
  show zG X cX2_clause 5 "QuiverKinModel" "clause" 11 241 0 [(0, va_rf a0)] [] g m
  unfold f_X2_clause at h
  refine g_aload_n dX2_clause_0 0 rfl ?_
  refine g_cVRv (rv := fun x : Int32 => Value.int x) [] (fun x0 e0 => ok_X2_sortOf (xl X) g m a0 x0 e0) zc2 (by decide) (lw_V q1592 q1594 qs61 q126 q1595) rfl hy_X2_sortOf rfl ⟨by decide, by decide⟩ rfl zc_0 (by decide) dX2_clause_1 h (fun v1 h => ?_)
  refine g_istore_n [(1, .int v1), (0, va_rf a0)] dX2_clause_4 (by decide) (zf_r zf_0) rfl ?_
  refine g_iload_n dX2_clause_5 0 rfl ?_
  refine g_if_ge 11 dX2_clause_6 (by decide) (fun c => ?_) (fun c => ?_)
  · have h := zite_p h c
    refine g_iload_n dX2_clause_11 0 rfl ?_
    refine g_iconst (v := (1 : Int32)) dX2_clause_12 (by decide) ?_
    obtain ⟨o2, h1, hl2, hr2⟩ := zEx_e h
    have K2 : o2 = .inr () → zG X cX2_clause 5 "QuiverKinModel" "clause" 11 241 29 [(0, va_rf a0), (1, .int v1)] [] g m := by
      intro e
      have h := hr2 _ e
      refine g_aload_n dX2_clause_29 0 rfl ?_
      refine gf_r zfd_2_2 q1412  (fun _ h9 => h9) dX2_clause_30 h (fun r5 h => ?_)
      refine g_aload_n dX2_clause_33 0 rfl ?_
      refine gf_i zfd_2_12 q1422  (fun _ h9 => h9) dX2_clause_34 h (fun v6 h => ?_)
      refine g_iald dX2_clause_37 h (fun v7 h => ?_)
      refine g_istore_n [(2, .int v7), (0, va_rf a0), (1, .int v1)] dX2_clause_38 (by decide) (zf_r (zf_i zf_0)) rfl ?_
      refine g_iload_n dX2_clause_39 0 rfl ?_
      refine g_bipush (v := (24 : Int32)) dX2_clause_40 (by decide) ?_
      refine g_icmp_ne 48 dX2_clause_42 (by decide) (fun c => ?_) (fun c => ?_)
      · have h := zite_n h c
        refine g_iload_n dX2_clause_48 2 rfl ?_
        refine g_iconst (v := (1 : Int32)) dX2_clause_49 (by decide) ?_
        obtain ⟨o8, h1, h2⟩ := zB_e h
        have K8 : ∀ (m9 : zMm), o8 = m9 → zG X cX2_clause 5 "QuiverKinModel" "clause" 11 241 65 [(0, va_rf a0), (1, .int v1), (2, .int v7)] [] g m9 := by
          intro m9 e
          rw [e] at h2
          have h := h2
          refine g_aload_n dX2_clause_65 0 rfl ?_
          refine g_iload_n dX2_clause_66 1 rfl ?_
          refine gp_i zpd_2_14 q1424 (fun _ h9 => h9) dX2_clause_67 h (fun m12 h => ?_)
          refine g_aload_n dX2_clause_70 0 rfl ?_
          refine g_cVMn [] (fun m0 e0 => ok_X2_nextToken (xl X) g m12 a0 m0 e0) zc2 (by decide) (lw_V q1569 q1571 qs58 q126 q1572) rfl hy_X2_nextToken rfl ⟨by decide, by decide⟩ rfl zc_0 (by decide) dX2_clause_71 h (fun m13 h => ?_)
          refine g_aload_n dX2_clause_74 0 rfl ?_
          refine gf_i zfd_2_12 q1422  (fun _ h9 => h9) dX2_clause_75 h (fun v14 h => ?_)
          refine g_iconst (v := (1 : Int32)) dX2_clause_78 (by decide) ?_
          refine g_iadd dX2_clause_79 ?_
          refine g_iconst (v := (3 : Int32)) dX2_clause_80 (by decide) ?_
          refine g_iload_n dX2_clause_81 2 rfl ?_
          refine g_imul dX2_clause_82 ?_
          refine g_iadd dX2_clause_83 ?_
          refine g_leti h (fun v15 h => ?_)
          refine g_istore_n [(3, .int v15), (0, va_rf a0), (1, .int v1), (2, .int v7)] dX2_clause_84 (by decide) (zf_r (zf_i (zf_i zf_0))) rfl ?_
          refine g_aload_n dX2_clause_85 1 rfl ?_
          refine gf_r zfd_2_2 q1412  (fun _ h9 => h9) dX2_clause_86 h (fun r16 h => ?_)
          refine g_iload_n dX2_clause_89 0 rfl ?_
          refine g_iload_n dX2_clause_90 2 rfl ?_
          refine g_iast dX2_clause_91 h (fun m17 h => ?_)
          refine g_aload_n dX2_clause_92 1 rfl ?_
          refine g_iload_n dX2_clause_93 2 rfl ?_
          refine g_iload_n dX2_clause_94 0 rfl ?_
          refine g_cVMv (rv := fun x : Int32 => Value.int x) [.int v1, .int v15] (fun x0 m0 e0 => ok_X2_body (xl X) g m17 a0 v1 v15 x0 m0 e0) zc2 (by decide) (lw_V q1622 q1624 qs64 q126 q1625) rfl hy_X2_body rfl ⟨by decide, by decide⟩ rfl zc_0 (by decide) dX2_clause_95 h (fun v18 m19 h => ?_)
          refine g_istore [(4, .int v18), (3, .int v15), (0, va_rf a0), (1, .int v1), (2, .int v7)] dX2_clause_98 (by decide) (zf_i (zf_r (zf_i (zf_i zf_0)))) rfl ?_
          refine g_iload dX2_clause_100 0 rfl ?_
          refine g_if_eq 108 dX2_clause_102 (by decide) (fun c => ?_) (fun c => ?_)
          · have h := zite_p h c
            refine g_aload_n dX2_clause_108 2 rfl ?_
            refine gf_r zfd_2_2 q1412  (fun _ h9 => h9) dX2_clause_109 h (fun r20 h => ?_)
            refine g_aload_n dX2_clause_112 2 rfl ?_
            refine gf_i zfd_2_12 q1422  (fun _ h9 => h9) dX2_clause_113 h (fun v21 h => ?_)
            refine g_dup2 dX2_clause_116 rfl (zcat_r _) ?_
            refine g_iald dX2_clause_117 h (fun v22 h => ?_)
            refine g_iconst (v := (1 : Int32)) dX2_clause_118 (by decide) ?_
            refine g_iadd dX2_clause_119 ?_
            refine g_iast dX2_clause_120 h (fun m23 h => ?_)
            refine g_aload_n dX2_clause_121 2 rfl ?_
            refine gf_i zfd_2_9 q1419  (fun _ h9 => h9) dX2_clause_122 h (fun v24 h => ?_)
            refine g_bipush (v := (59 : Int32)) dX2_clause_125 (by decide) ?_
            refine g_icmp_eq 132 dX2_clause_127 (by decide) (fun c => ?_) (fun c => ?_)
            · have h := zite_p h c
              refine g_aload_n dX2_clause_132 2 rfl ?_
              refine g_cVMn [] (fun m0 e0 => ok_X2_nextToken (xl X) g m23 a0 m0 e0) zc2 (by decide) (lw_V q1569 q1571 qs58 q126 q1572) rfl hy_X2_nextToken rfl ⟨by decide, by decide⟩ rfl zc_0 (by decide) dX2_clause_133 h (fun m25 h => ?_)
              refine g_iconst (v := (0 : Int32)) dX2_clause_136 (by decide) ?_
              refine g_iret dX2_clause_137 hxt ?_
              have e := Option.some.inj h
              exact Kret _ _ e
            · have h := zite_n h c
              refine g_iconst (v := (1 : Int32)) dX2_clause_130 (by decide) ?_
              refine g_iret dX2_clause_131 hxt ?_
              have e := Option.some.inj h
              exact Kret _ _ e
          · have h := zite_n h c
            refine g_iload dX2_clause_105 0 rfl ?_
            refine g_iret dX2_clause_107 hxt ?_
            have e := Option.some.inj h
            exact Kret _ _ e
        have h := h1
        refine g_icmp_gt 65 dX2_clause_50 (by decide) (fun c => ?_) (fun c => ?_)
        · have h := zite_p h c
          refine zG.sub [1, 2, 0] rfl ?_
          have e := Option.some.inj h
          exact K8 _ e.symm
        · have h := zite_n h c
          refine g_aload_n dX2_clause_53 1 rfl ?_
          refine g_dup dX2_clause_54 (zcat_r _) ?_
          refine gf_i zfd_2_19 q1429  (fun _ h9 => h9) dX2_clause_55 h (fun v10 h => ?_)
          refine g_iconst (v := (1 : Int32)) dX2_clause_58 (by decide) ?_
          refine g_iload_n dX2_clause_59 2 rfl ?_
          refine g_ishl dX2_clause_60 ?_
          refine g_ior dX2_clause_61 ?_
          refine gp_i zpd_2_19 q1429 (fun _ h9 => h9) dX2_clause_62 h (fun m11 h => ?_)
          refine zG.sub [1, 2, 0] rfl ?_
          have e := Option.some.inj h
          exact K8 _ e.symm
      · have h := zite_p h c
        refine g_bipush (v := (6 : Int32)) dX2_clause_45 (by decide) ?_
        refine g_iret dX2_clause_47 hxt ?_
        have e := Option.some.inj h
        exact Kret _ _ e
    have h := h1
    refine g_icmp_gt 29 dX2_clause_13 (by decide) (fun c => ?_) (fun c => ?_)
    · have h := zite_p h c
      refine zG.sub [1, 0] rfl ?_
      have e := Option.some.inj h
      exact K2 e.symm
    · have h := zite_n h c
      refine g_aload_n dX2_clause_16 1 rfl ?_
      refine gf_i zfd_2_19 q1429  (fun _ h9 => h9) dX2_clause_17 h (fun v3 h => ?_)
      refine g_iload_n dX2_clause_20 0 rfl ?_
      refine g_cSRv (rv := fun x : Int32 => Value.int x) [.int v3, .int v1] (fun x0 e0 => ok_X2_has (xl X) g m v3 v1 x0 e0) (lw_S q1619 q1620 q126 q1621) hy_X2_has rfl ⟨by decide, by decide⟩ rfl zc_0 (by decide) dX2_clause_21 h (fun v4 h => ?_)
      refine g_if_eq 29 dX2_clause_24 (by decide) (fun c => ?_) (fun c => ?_)
      · have h := zite_p h c
        refine zG.sub [1, 0] rfl ?_
        have e := Option.some.inj h
        exact K2 e.symm
      · have h := zite_n h c
        refine g_iconst (v := (4 : Int32)) dX2_clause_27 (by decide) ?_
        refine g_iret dX2_clause_28 hxt ?_
        have e := Option.some.inj h
        have e := hl2 _ e.symm
        exact Kret _ _ e
  · have h := zite_n h c
    refine g_iconst (v := (1 : Int32)) dX2_clause_9 (by decide) ?_
    refine g_iret dX2_clause_10 hxt ?_
    have e := Option.some.inj h
    exact Kret _ _ e
/-! QuiverKinModel.readText -/
def b_X2_readText_43 (g : zGd) (a0 : Option Nat) : zMm → Option ((((Int32 × zMm) ⊕ (zMm))) ⊕ (zMm)) := fun m14 =>
(zgi g m14 2 9 a0).bind fun v15 =>
if v15 = 0 then (some (.inl (.inr m14)))
else ((zrc g 2 a0 (f_X2_clause g m14 a0)).bind fun (v16, m17) =>
if v16 = 0 then (some (.inr m17))
else (some (.inl (.inl ((v16, m17))))))
def f_X2_readText (g : zGd) (m : zMm) (a0 : Option Nat) : Option (Int32 × zMm) :=
(zgr g m 2 0 a0).bind fun r1 =>
(zald 101 g m r1 (1 : Int32)).bind fun v2 =>
(zpi g m 2 12 a0 ((681 : Int32) * v2)).bind fun m3 =>
(zgr g m3 2 2 a0).bind fun r4 =>
(zgi g m3 2 12 a0).bind fun v5 =>
(zast 101 g m3 r4 v5 (0 : Int32)).bind fun m6 =>
(zpi g m6 2 13 a0 (0 : Int32)).bind fun m7 =>
(zpi g m7 2 19 a0 (0 : Int32)).bind fun m8 =>
(zpi g m8 2 7 a0 (0 : Int32)).bind fun m9 =>
(zrc g 2 a0 (f_X2_nextToken g m9 a0)).bind fun m10 =>
zEx (σ := zMm) (zLoop (b_X2_readText_43 g a0) zFuel m10) fun m12 =>
some (((0 : Int32), m12))
theorem hy_X2_readText : zHy yX2_readText 0 := ⟨by decide, by decide, by decide +kernel⟩
set_option maxHeartbeats 4000000 in
theorem ok_X2_readText (l : Launch) (g : zGd) (m : zMm) (a0 : Option Nat) (z0 : Int32) (m0 : zMm) (h : f_X2_readText g m a0 = some (z0, m0)) : zCT l yX2_readText cX2_readText 2 (some .int) 12 265 g m [va_rf a0] (some (.int z0)) g m0 := by
  refine zCT.of (own := "QuiverKinModel") (mn := "readText") (by decide +kernel) rfl rfl (zla_r zla_0) (zls_r zls_0) (by decide) (fun X hxl hxg hxf hxt hxr hxn => ?_)
  have Kret : ∀ (y0 : Int32) (y1 : zMm), (y0, y1) = (z0, m0) → zRe X g y1 (some (.int y0)) := by
    intro y0 y1 e; cases e; exact ⟨hxf, hxr, hxn⟩
  subst hxl
  show zG X cX2_readText 2 "QuiverKinModel" "readText" 12 265 0 [(0, va_rf a0)] [] g m
  unfold f_X2_readText at h
  refine g_aload_n dX2_readText_0 0 rfl ?_
  refine g_sipush (v := (681 : Int32)) dX2_readText_1 (by decide) ?_
  refine g_aload_n dX2_readText_4 0 rfl ?_
  refine gf_r zfd_2_0 q1410  (fun _ h9 => h9) dX2_readText_5 h (fun r1 h => ?_)
  refine g_iconst (v := (1 : Int32)) dX2_readText_8 (by decide) ?_
  refine g_iald dX2_readText_9 h (fun v2 h => ?_)
  refine g_imul dX2_readText_10 ?_
  refine gp_i zpd_2_12 q1422 (fun _ h9 => h9) dX2_readText_11 h (fun m3 h => ?_)
  refine g_aload_n dX2_readText_14 0 rfl ?_
  refine gf_r zfd_2_2 q1412  (fun _ h9 => h9) dX2_readText_15 h (fun r4 h => ?_)
  refine g_aload_n dX2_readText_18 0 rfl ?_
  refine gf_i zfd_2_12 q1422  (fun _ h9 => h9) dX2_readText_19 h (fun v5 h => ?_)
  refine g_iconst (v := (0 : Int32)) dX2_readText_22 (by decide) ?_
  refine g_iast dX2_readText_23 h (fun m6 h => ?_)
  refine g_aload_n dX2_readText_24 0 rfl ?_
  refine g_iconst (v := (0 : Int32)) dX2_readText_25 (by decide) ?_
  refine gp_i zpd_2_13 q1423 (fun _ h9 => h9) dX2_readText_26 h (fun m7 h => ?_)
  refine g_aload_n dX2_readText_29 0 rfl ?_
  refine g_iconst (v := (0 : Int32)) dX2_readText_30 (by decide) ?_
  refine gp_i zpd_2_19 q1429 (fun _ h9 => h9) dX2_readText_31 h (fun m8 h => ?_)
  refine g_aload_n dX2_readText_34 0 rfl ?_
  refine g_iconst (v := (0 : Int32)) dX2_readText_35 (by decide) ?_
  refine gp_i zpd_2_7 q1417 (fun _ h9 => h9) dX2_readText_36 h (fun m9 h => ?_)
  refine g_aload_n dX2_readText_39 0 rfl ?_
  refine g_cVMn [] (fun m0 e0 => ok_X2_nextToken (xl X) g m9 a0 m0 e0) zc2 (by decide) (lw_V q1569 q1571 qs58 q126 q1572) rfl hy_X2_nextToken rfl ⟨by decide, by decide⟩ rfl zc_0 (by decide) dX2_readText_40 h (fun m10 h => ?_)
  obtain ⟨o11, h1, hl11, hr11⟩ := zEx_e h
  have K11 : ∀ (m12 : zMm), o11 = .inr m12 → zG X cX2_readText 2 "QuiverKinModel" "readText" 12 265 64 [] [] g m12 := by
    intro m12 e
    have h := hr11 _ e
    refine g_iconst (v := (0 : Int32)) dX2_readText_64 (by decide) ?_
    refine g_iret dX2_readText_65 hxt ?_
    have e := Option.some.inj h
    exact Kret _ _ e
  refine zG.sub [0] rfl ?_
  refine zLoop_ok (Φ := (fun m14 : zMm => zG X cX2_readText 2 "QuiverKinModel" "readText" 12 265 43 [(0, va_rf a0)] [] g m14)) o11 ?_ zFuel _ h1
  rintro m14 x13 h hl13 hr13
  unfold b_X2_readText_43 at h
  have K13 : ∀ (m14 : zMm), x13 = .inr m14 → zG X cX2_readText 2 "QuiverKinModel" "readText" 12 265 43 [(0, va_rf a0)] [] g m14 := by
    intro m14 e
    exact hr13 _ e
  show zG X cX2_readText 2 "QuiverKinModel" "readText" 12 265 43 [(0, va_rf a0)] [] g m14
  refine g_aload_n dX2_readText_43 0 rfl ?_
  refine gf_i zfd_2_9 q1419  (fun _ h9 => h9) dX2_readText_44 h (fun v15 h => ?_)
  refine g_if_eq 64 dX2_readText_47 (by decide) (fun c => ?_) (fun c => ?_)
  · have h := zite_p h c
    refine zG.sub [] rfl ?_
    have e := Option.some.inj h
    have e := hl13 _ e.symm
    exact K11 _ e.symm
  · have h := zite_n h c
    refine g_aload_n dX2_readText_50 0 rfl ?_
    refine g_cVMv (rv := fun x : Int32 => Value.int x) [] (fun x0 m0 e0 => ok_X2_clause (xl X) g m14 a0 x0 m0 e0) zc2 (by decide) (lw_V q1588 q1590 qs60 q126 q1591) rfl hy_X2_clause rfl ⟨by decide, by decide⟩ rfl zc_0 (by decide) dX2_readText_51 h (fun v16 m17 h => ?_)
    refine g_istore_n [(1, .int v16), (0, va_rf a0)] dX2_readText_54 (by decide) (zf_r zf_0) rfl ?_
    refine g_iload_n dX2_readText_55 0 rfl ?_
    refine g_if_eq 61 dX2_readText_56 (by decide) (fun c => ?_) (fun c => ?_)
    · have h := zite_p h c
      refine g_goto 43 dX2_readText_61 (by decide) ?_
      refine zG.sub [1] rfl ?_
      have e := Option.some.inj h
      exact K13 _ e.symm
    · have h := zite_n h c
      refine g_iload_n dX2_readText_59 0 rfl ?_
      refine g_iret dX2_readText_60 hxt ?_
      have e := Option.some.inj h
      have e := hl13 _ e.symm
      have e := hl11 _ e.symm
      exact Kret _ _ e
/-! QuiverKinModel.text -/
def f_X2_text (g : zGd) (m : zMm) (a0 : Option Nat) : Option (Int32 × zMm) :=
(zgr g m 2 0 a0).bind fun r1 =>
(zald 101 g m r1 (1 : Int32)).bind fun v2 =>
if v2 = (4 : Int32) then (some (((-1 : Int32), m)))
else ((zrc g 2 a0 (f_X2_readText g m a0)).bind fun (v3, m4) =>
(zpi g m4 2 5 a0 v3).bind fun m5 =>
(zgi g m5 2 5 a0).bind fun v6 =>
((if v6 = 0 then (some ((-1 : Int32)))
else ((zgi g m5 2 8 a0).bind fun v9 =>
some (v9)) : Option (Int32))).bind fun v8 =>
(zpi g m5 2 6 a0 v8).bind fun m10 =>
(zpi g m10 2 4 a0 (0 : Int32)).bind fun m11 =>
(zgi g m11 2 5 a0).bind fun v12 =>
if v12 = 0 then ((zgr g m11 2 0 a0).bind fun r13 =>
(zald 101 g m11 r13 (1 : Int32)).bind fun v14 =>
(zast 101 g m11 r13 (1 : Int32) (v14 + (1 : Int32))).bind fun m15 =>
(zgr g m15 2 0 a0).bind fun r16 =>
(zald 101 g m15 r16 (1 : Int32)).bind fun v17 =>
some (((v17 - (1 : Int32)), m15)))
else (some (((-1 : Int32), m11))))
theorem hy_X2_text : zHy yX2_text 0 := ⟨by decide, by decide, by decide +kernel⟩
set_option maxHeartbeats 4000000 in
theorem ok_X2_text (l : Launch) (g : zGd) (m : zMm) (a0 : Option Nat) (z0 : Int32) (m0 : zMm) (h : f_X2_text g m a0 = some (z0, m0)) : zCT l yX2_text cX2_text 1 (some .int) 13 286 g m [va_rf a0] (some (.int z0)) g m0 := by
  refine zCT.of (own := "QuiverKinModel") (mn := "text") (by decide +kernel) rfl rfl (zla_r zla_0) (zls_r zls_0) (by decide) (fun X hxl hxg hxf hxt hxr hxn => ?_)
  have Kret : ∀ (y0 : Int32) (y1 : zMm), (y0, y1) = (z0, m0) → zRe X g y1 (some (.int y0)) := by
    intro y0 y1 e; cases e; exact ⟨hxf, hxr, hxn⟩
  subst hxl
  show zG X cX2_text 1 "QuiverKinModel" "text" 13 286 0 [(0, va_rf a0)] [] g m
  unfold f_X2_text at h
  refine g_aload_n dX2_text_0 0 rfl ?_
  refine gf_r zfd_2_0 q1410  (fun _ h9 => h9) dX2_text_1 h (fun r1 h => ?_)
  refine g_iconst (v := (1 : Int32)) dX2_text_4 (by decide) ?_
  refine g_iald dX2_text_5 h (fun v2 h => ?_)
  refine g_iconst (v := (4 : Int32)) dX2_text_6 (by decide) ?_
  refine g_icmp_ne 12 dX2_text_7 (by decide) (fun c => ?_) (fun c => ?_)
  · have h := zite_n h c
    refine g_aload_n dX2_text_12 0 rfl ?_
    refine g_aload_n dX2_text_13 0 rfl ?_
    refine g_cVMv (rv := fun x : Int32 => Value.int x) [] (fun x0 m0 e0 => ok_X2_readText (xl X) g m a0 x0 m0 e0) zc2 (by decide) (lw_V q1565 q1567 qs57 q126 q1568) rfl hy_X2_readText rfl ⟨by decide, by decide⟩ rfl (zc_r zc_0) (by decide) dX2_text_14 h (fun v3 m4 h => ?_)
    refine gp_i zpd_2_5 q1415 (fun _ h9 => h9) dX2_text_17 h (fun m5 h => ?_)
    refine g_aload_n dX2_text_20 0 rfl ?_
    refine g_aload_n dX2_text_21 0 rfl ?_
    refine gf_i zfd_2_5 q1415  (fun _ h9 => h9) dX2_text_22 h (fun v6 h => ?_)
    obtain ⟨o7, h1, h2⟩ := zB_e h
    have K7 : ∀ (v8 : Int32), o7 = v8 → zG X cX2_text 1 "QuiverKinModel" "text" 13 286 36 [(0, va_rf a0)] [.int v8, va_rf a0] g m5 := by
      intro v8 e
      rw [e] at h2
      have h := h2
      refine gp_i zpd_2_6 q1416 (fun _ h9 => h9) dX2_text_36 h (fun m10 h => ?_)
      refine g_aload_n dX2_text_39 0 rfl ?_
      refine g_iconst (v := (0 : Int32)) dX2_text_40 (by decide) ?_
      refine gp_i zpd_2_4 q1414 (fun _ h9 => h9) dX2_text_41 h (fun m11 h => ?_)
      refine g_aload_n dX2_text_44 0 rfl ?_
      refine gf_i zfd_2_5 q1415  (fun _ h9 => h9) dX2_text_45 h (fun v12 h => ?_)
      refine g_if_eq 53 dX2_text_48 (by decide) (fun c => ?_) (fun c => ?_)
      · have h := zite_p h c
        refine g_aload_n dX2_text_53 0 rfl ?_
        refine gf_r zfd_2_0 q1410  (fun _ h9 => h9) dX2_text_54 h (fun r13 h => ?_)
        refine g_iconst (v := (1 : Int32)) dX2_text_57 (by decide) ?_
        refine g_dup2 dX2_text_58 rfl (zcat_r _) ?_
        refine g_iald dX2_text_59 h (fun v14 h => ?_)
        refine g_iconst (v := (1 : Int32)) dX2_text_60 (by decide) ?_
        refine g_iadd dX2_text_61 ?_
        refine g_iast dX2_text_62 h (fun m15 h => ?_)
        refine g_aload_n dX2_text_63 0 rfl ?_
        refine gf_r zfd_2_0 q1410  (fun _ h9 => h9) dX2_text_64 h (fun r16 h => ?_)
        refine g_iconst (v := (1 : Int32)) dX2_text_67 (by decide) ?_
        refine g_iald dX2_text_68 h (fun v17 h => ?_)
        refine g_iconst (v := (1 : Int32)) dX2_text_69 (by decide) ?_
        refine g_isub dX2_text_70 ?_
        refine g_iret dX2_text_71 hxt ?_
        have e := Option.some.inj h
        exact Kret _ _ e
      · have h := zite_n h c
        refine g_iconst (v := (-1 : Int32)) dX2_text_51 (by decide) ?_
        refine g_iret dX2_text_52 hxt ?_
        have e := Option.some.inj h
        exact Kret _ _ e
    have h := h1
    refine g_if_ne 32 dX2_text_25 (by decide) (fun c => ?_) (fun c => ?_)
    · have h := zite_n h c
      refine g_aload_n dX2_text_32 0 rfl ?_
      refine gf_i zfd_2_8 q1418  (fun _ h9 => h9) dX2_text_33 h (fun v9 h => ?_)
      refine zG.sub [0] rfl ?_
      have e := Option.some.inj h
      exact K7 _ e.symm
    · have h := zite_p h c
      refine g_iconst (v := (-1 : Int32)) dX2_text_28 (by decide) ?_
      refine g_goto 36 dX2_text_29 (by decide) ?_
      refine zG.sub [0] rfl ?_
      have e := Option.some.inj h
      exact K7 _ e.symm
  · have h := zite_p h c
    refine g_iconst (v := (-1 : Int32)) dX2_text_10 (by decide) ?_
    refine g_iret dX2_text_11 hxt ?_
    have e := Option.some.inj h
    exact Kret _ _ e
/-! QuiverKinModel.fault -/
def f_X2_fault (g : zGd) (m : zMm) (a0 : Option Nat) (a1 : Int32) : Option (Int32) :=
if a1 = 0 then ((zgi g m 2 5 a0).bind fun v2 =>
some (v2))
else (if a1 = (1 : Int32) then ((zgi g m 2 6 a0).bind fun v1 =>
some (v1))
else (some ((-1 : Int32))))
theorem hy_X2_fault : zHy yX2_fault 1 := ⟨by decide, by decide, by decide +kernel⟩
set_option maxHeartbeats 4000000 in
theorem ok_X2_fault (l : Launch) (g : zGd) (m : zMm) (a0 : Option Nat) (a1 : Int32) (z0 : Int32) (h : f_X2_fault g m a0 a1 = some z0) : zCT l yX2_fault cX2_fault 2 (some .int) 1 20 g m [va_rf a0, .int a1] (some (.int z0)) g m := by
  refine zCT.of (own := "QuiverKinModel") (mn := "fault") (by decide +kernel) rfl rfl (zla_r (zla_i zla_0)) (zls_r (zls_i zls_0)) (by decide) (fun X hxl hxg hxf hxt hxr hxn => ?_)
  have Kret : ∀ (y0 : Int32), y0 = z0 → zRe X g m (some (.int y0)) := by
    intro y0 e; cases e; exact ⟨hxf, hxr, hxn⟩
  subst hxl
  show zG X cX2_fault 2 "QuiverKinModel" "fault" 1 20 0 [(0, va_rf a0), (1, .int a1)] [] g m
  unfold f_X2_fault at h
  refine g_iload_n dX2_fault_0 1 rfl ?_
  refine g_if_ne 11 dX2_fault_1 (by decide) (fun c => ?_) (fun c => ?_)
  · have h := zite_n h c
    refine g_iload_n dX2_fault_11 1 rfl ?_
    refine g_iconst (v := (1 : Int32)) dX2_fault_12 (by decide) ?_
    refine g_icmp_ne 23 dX2_fault_13 (by decide) (fun c => ?_) (fun c => ?_)
    · have h := zite_n h c
      refine g_iconst (v := (-1 : Int32)) dX2_fault_23 (by decide) ?_
      refine g_iret dX2_fault_24 hxt ?_
      have e := Option.some.inj h
      exact Kret _ e
    · have h := zite_p h c
      refine g_aload_n dX2_fault_16 0 rfl ?_
      refine gf_i zfd_2_6 q1416  (fun _ h9 => h9) dX2_fault_17 h (fun v1 h => ?_)
      refine g_goto 24 dX2_fault_20 (by decide) ?_
      refine g_iret dX2_fault_24 hxt ?_
      have e := Option.some.inj h
      exact Kret _ e
  · have h := zite_p h c
    refine g_aload_n dX2_fault_4 0 rfl ?_
    refine gf_i zfd_2_5 q1415  (fun _ h9 => h9) dX2_fault_5 h (fun v2 h => ?_)
    refine g_goto 24 dX2_fault_8 (by decide) ?_
    refine g_iret dX2_fault_24 hxt ?_
    have e := Option.some.inj h
    exact Kret _ e
/-! QuiverKinModel.by -/
def f_X2_by (g : zGd) (m : zMm) (a0 : Option Nat) (a1 : Int32) : Option (Int32 × zMm) :=
(zgr g m 2 0 a0).bind fun r1 =>
(zald 101 g m r1 (1 : Int32)).bind fun v2 =>
(f_X2_isIn a1 (-1 : Int32) (v2 - (1 : Int32))).bind fun v3 =>
if v3 = 0 then (some (((0 : Int32), m)))
else ((zgr g m 2 0 a0).bind fun r4 =>
(zast 101 g m r4 (2 : Int32) a1).bind fun m5 =>
some (((1 : Int32), m5)))
theorem hy_X2_by : zHy yX2_by 1 := ⟨by decide, by decide, by decide +kernel⟩
set_option maxHeartbeats 4000000 in
theorem ok_X2_by (l : Launch) (g : zGd) (m : zMm) (a0 : Option Nat) (a1 : Int32) (z0 : Int32) (m0 : zMm) (h : f_X2_by g m a0 a1 = some (z0, m0)) : zCT l yX2_by cX2_by 2 (some .boolean) 2 42 g m [va_rf a0, .int a1] (some (.int z0)) g m0 := by
  refine zCT.of (own := "QuiverKinModel") (mn := "by") (by decide +kernel) rfl rfl (zla_r (zla_i zla_0)) (zls_r (zls_i zls_0)) (by decide) (fun X hxl hxg hxf hxt hxr hxn => ?_)
  have Kret : ∀ (y0 : Int32) (y1 : zMm), (y0, y1) = (z0, m0) → zRe X g y1 (some (.int y0)) := by
    intro y0 y1 e; cases e; exact ⟨hxf, hxr, hxn⟩
  subst hxl
  show zG X cX2_by 2 "QuiverKinModel" "by" 2 42 0 [(0, va_rf a0), (1, .int a1)] [] g m
  unfold f_X2_by at h
  refine g_iload_n dX2_by_0 1 rfl ?_
  refine g_iconst (v := (-1 : Int32)) dX2_by_1 (by decide) ?_
  refine g_aload_n dX2_by_2 0 rfl ?_
  refine gf_r zfd_2_0 q1410  (fun _ h9 => h9) dX2_by_3 h (fun r1 h => ?_)
  refine g_iconst (v := (1 : Int32)) dX2_by_6 (by decide) ?_
  refine g_iald dX2_by_7 h (fun v2 h => ?_)
  refine g_iconst (v := (1 : Int32)) dX2_by_8 (by decide) ?_
  refine g_isub dX2_by_9 ?_
  refine g_cSRv (rv := fun x : Int32 => Value.int x) [.int a1, .int (-1 : Int32), .int (v2 - (1 : Int32))] (fun x0 e0 => ok_X2_isIn (xl X) g m a1 (-1 : Int32) (v2 - (1 : Int32)) x0 e0) (lw_S q1534 q1535 q126 q1536) hy_X2_isIn rfl ⟨by decide, by decide⟩ rfl zc_0 (by decide) dX2_by_10 h (fun v3 h => ?_)
  refine g_if_ne 18 dX2_by_13 (by decide) (fun c => ?_) (fun c => ?_)
  · have h := zite_n h c
    refine g_aload_n dX2_by_18 0 rfl ?_
    refine gf_r zfd_2_0 q1410  (fun _ h9 => h9) dX2_by_19 h (fun r4 h => ?_)
    refine g_iconst (v := (2 : Int32)) dX2_by_22 (by decide) ?_
    refine g_iload_n dX2_by_23 1 rfl ?_
    refine g_iast dX2_by_24 h (fun m5 h => ?_)
    refine g_iconst (v := (1 : Int32)) dX2_by_25 (by decide) ?_
    refine g_zret dX2_by_26 hxt rfl ?_
    have e := Option.some.inj h
    exact Kret _ _ e
  · have h := zite_p h c
    refine g_iconst (v := (0 : Int32)) dX2_by_16 (by decide) ?_
    refine g_zret dX2_by_17 hxt rfl ?_
    have e := Option.some.inj h
    exact Kret _ _ e
/-! QuiverKinModel.undo -/
def b_X2_undo_37 (g : zGd) (a0 : Option Nat) (v8 : Int32) : Int32 × zMm → Option ((zMm) ⊕ (Int32 × zMm)) := fun (v12, m13) =>
if (16 : Int32) ≤ v12 then (some (.inl m13))
else ((zgr g m13 2 0 a0).bind fun r14 =>
(zgr g m13 2 0 a0).bind fun r15 =>
(zald 101 g m13 r15 ((v8 + (1 : Int32)) + v12)).bind fun v16 =>
(zast 101 g m13 r14 ((7 : Int32) + v12) v16).bind fun m17 =>
zlt (v12 + (1 : Int32)) fun v18 =>
some (.inr (v18, m17)))
def b_X2_undo_75 (g : zGd) (a0 : Option Nat) : Int32 × zMm → Option ((zMm) ⊕ (Int32 × zMm)) := fun (v24, m25) =>
(zgr g m25 2 0 a0).bind fun r26 =>
(zald 101 g m25 r26 (0 : Int32)).bind fun v27 =>
if v27 ≤ v24 then (some (.inl m25))
else ((zrc g 2 a0 (f_X2_begin g m25 a0 v24)).bind fun m28 =>
zlt (v24 + (1 : Int32)) fun v29 =>
some (.inr (v29, m28)))
def b_X2_undo_98 (g : zGd) (a0 : Option Nat) (v8 : Int32) : Int32 × zMm → Option ((zMm) ⊕ (Int32 × zMm)) := fun (v33, m34) =>
if (25 : Int32) ≤ v33 then (some (.inl m34))
else ((zgr g m34 2 0 a0).bind fun r35 =>
(zgr g m34 2 0 a0).bind fun r36 =>
(zald 101 g m34 r36 (((v8 + (1 : Int32)) + (16 : Int32)) + v33)).bind fun v37 =>
(zast 101 g m34 r35 ((1425 : Int32) + v33) v37).bind fun m38 =>
zlt (v33 + (1 : Int32)) fun v39 =>
some (.inr (v39, m38)))
def f_X2_undo (g : zGd) (m : zMm) (a0 : Option Nat) : Option (Int32 × zMm) :=
(zgr g m 2 0 a0).bind fun r1 =>
(zald 101 g m r1 (3 : Int32)).bind fun v2 =>
if v2 = 0 then (some (((-1 : Int32), m)))
else ((zgr g m 2 0 a0).bind fun r3 =>
(zald 101 g m r3 (3 : Int32)).bind fun v4 =>
(zast 101 g m r3 (3 : Int32) (v4 - (1 : Int32))).bind fun m5 =>
(zgr g m5 2 0 a0).bind fun r6 =>
(zald 101 g m5 r6 (3 : Int32)).bind fun v7 =>
zlt ((165 : Int32) + ((42 : Int32) * v7)) fun v8 =>
(zLoop (b_X2_undo_37 g a0 v8) zFuel ((0 : Int32), m5)).bind fun m10 =>
(zgr g m10 2 0 a0).bind fun r19 =>
(zald 101 g m10 r19 v8).bind fun v20 =>
(zLoop (b_X2_undo_75 g a0) zFuel (v20, m10)).bind fun m22 =>
(zLoop (b_X2_undo_98 g a0 v8) zFuel ((0 : Int32), m22)).bind fun m31 =>
(zgr g m31 2 0 a0).bind fun r40 =>
(zald 101 g m31 r40 (3 : Int32)).bind fun v41 =>
some ((v41, m31)))
theorem hy_X2_undo : zHy yX2_undo 0 := ⟨by decide, by decide, by decide +kernel⟩
set_option maxHeartbeats 4000000 in
theorem ok_X2_undo (l : Launch) (g : zGd) (m : zMm) (a0 : Option Nat) (z0 : Int32) (m0 : zMm) (h : f_X2_undo g m a0 = some (z0, m0)) : zCT l yX2_undo cX2_undo 3 (some .int) 2 41 g m [va_rf a0] (some (.int z0)) g m0 := by
  refine zCT.of (own := "QuiverKinModel") (mn := "undo") (by decide +kernel) rfl rfl (zla_r zla_0) (zls_r zls_0) (by decide) (fun X hxl hxg hxf hxt hxr hxn => ?_)
  have Kret : ∀ (y0 : Int32) (y1 : zMm), (y0, y1) = (z0, m0) → zRe X g y1 (some (.int y0)) := by
    intro y0 y1 e; cases e; exact ⟨hxf, hxr, hxn⟩
  subst hxl
  show zG X cX2_undo 3 "QuiverKinModel" "undo" 2 41 0 [(0, va_rf a0)] [] g m
  unfold f_X2_undo at h
  refine g_aload_n dX2_undo_0 0 rfl ?_
  refine gf_r zfd_2_0 q1410  (fun _ h9 => h9) dX2_undo_1 h (fun r1 h => ?_)
  refine g_iconst (v := (3 : Int32)) dX2_undo_4 (by decide) ?_
  refine g_iald dX2_undo_5 h (fun v2 h => ?_)
  refine g_if_ne 11 dX2_undo_6 (by decide) (fun c => ?_) (fun c => ?_)
  · have h := zite_n h c
    refine g_aload_n dX2_undo_11 0 rfl ?_
    refine gf_r zfd_2_0 q1410  (fun _ h9 => h9) dX2_undo_12 h (fun r3 h => ?_)
    refine g_iconst (v := (3 : Int32)) dX2_undo_15 (by decide) ?_
    refine g_dup2 dX2_undo_16 rfl (zcat_r _) ?_
    refine g_iald dX2_undo_17 h (fun v4 h => ?_)
    refine g_iconst (v := (1 : Int32)) dX2_undo_18 (by decide) ?_
    refine g_isub dX2_undo_19 ?_
    refine g_iast dX2_undo_20 h (fun m5 h => ?_)
    refine g_sipush (v := (165 : Int32)) dX2_undo_21 (by decide) ?_
    refine g_bipush (v := (42 : Int32)) dX2_undo_24 (by decide) ?_
    refine g_aload_n dX2_undo_26 0 rfl ?_
    refine gf_r zfd_2_0 q1410  (fun _ h9 => h9) dX2_undo_27 h (fun r6 h => ?_)
    refine g_iconst (v := (3 : Int32)) dX2_undo_30 (by decide) ?_
    refine g_iald dX2_undo_31 h (fun v7 h => ?_)
    refine g_imul dX2_undo_32 ?_
    refine g_iadd dX2_undo_33 ?_
    refine g_leti h (fun v8 h => ?_)
    refine g_istore_n [(1, .int v8), (0, va_rf a0)] dX2_undo_34 (by decide) (zf_r zf_0) rfl ?_
    refine g_iconst (v := (0 : Int32)) dX2_undo_35 (by decide) ?_
    refine g_istore_n [(2, .int (0 : Int32)), (1, .int v8), (0, va_rf a0)] dX2_undo_36 (by decide) (zf_i (zf_r zf_0)) rfl ?_
    obtain ⟨o9, h1, h2⟩ := zB_e h
    have K9 : ∀ (m10 : zMm), o9 = m10 → zG X cX2_undo 3 "QuiverKinModel" "undo" 2 41 68 [(0, va_rf a0), (1, .int v8)] [] g m10 := by
      intro m10 e
      rw [e] at h2
      have h := h2
      refine g_aload_n dX2_undo_68 0 rfl ?_
      refine gf_r zfd_2_0 q1410  (fun _ h9 => h9) dX2_undo_69 h (fun r19 h => ?_)
      refine g_iload_n dX2_undo_72 1 rfl ?_
      refine g_iald dX2_undo_73 h (fun v20 h => ?_)
      refine g_istore_n [(2, .int v20), (0, va_rf a0), (1, .int v8)] dX2_undo_74 (by decide) (zf_r (zf_i zf_0)) rfl ?_
      obtain ⟨o21, h1, h2⟩ := zB_e h
      have K21 : ∀ (m22 : zMm), o21 = m22 → zG X cX2_undo 3 "QuiverKinModel" "undo" 2 41 96 [(0, va_rf a0), (1, .int v8)] [] g m22 := by
        intro m22 e
        rw [e] at h2
        have h := h2
        refine g_iconst (v := (0 : Int32)) dX2_undo_96 (by decide) ?_
        refine g_istore_n [(2, .int (0 : Int32)), (0, va_rf a0), (1, .int v8)] dX2_undo_97 (by decide) (zf_r (zf_i zf_0)) rfl ?_
        obtain ⟨o30, h1, h2⟩ := zB_e h
        have K30 : ∀ (m31 : zMm), o30 = m31 → zG X cX2_undo 3 "QuiverKinModel" "undo" 2 41 133 [(0, va_rf a0)] [] g m31 := by
          intro m31 e
          rw [e] at h2
          have h := h2
          refine g_aload_n dX2_undo_133 0 rfl ?_
          refine gf_r zfd_2_0 q1410  (fun _ h9 => h9) dX2_undo_134 h (fun r40 h => ?_)
          refine g_iconst (v := (3 : Int32)) dX2_undo_137 (by decide) ?_
          refine g_iald dX2_undo_138 h (fun v41 h => ?_)
          refine g_iret dX2_undo_139 hxt ?_
          have e := Option.some.inj h
          exact Kret _ _ e
        refine zG.sub [1, 2, 0] rfl ?_
        refine zLoop_ok (Φ := (fun (q : Int32 × zMm) => match q with | (v33, m34) => zG X cX2_undo 3 "QuiverKinModel" "undo" 2 41 98 [(0, va_rf a0), (1, .int v8), (2, .int v33)] [] g m34)) o30 ?_ zFuel _ h1
        rintro ⟨v33, m34⟩ x32 h hl32 hr32
        unfold b_X2_undo_98 at h
        have K32 : ∀ (v33 : Int32) (m34 : zMm), x32 = .inr (v33, m34) → zG X cX2_undo 3 "QuiverKinModel" "undo" 2 41 98 [(0, va_rf a0), (1, .int v8), (2, .int v33)] [] g m34 := by
          intro v33 m34 e
          exact hr32 _ e
        show zG X cX2_undo 3 "QuiverKinModel" "undo" 2 41 98 [(0, va_rf a0), (1, .int v8), (2, .int v33)] [] g m34
        refine g_iload_n dX2_undo_98 2 rfl ?_
        refine g_bipush (v := (25 : Int32)) dX2_undo_99 (by decide) ?_
        refine g_icmp_ge 133 dX2_undo_101 (by decide) (fun c => ?_) (fun c => ?_)
        · have h := zite_p h c
          refine zG.sub [0] rfl ?_
          have e := Option.some.inj h
          have e := hl32 _ e.symm
          exact K30 _ e.symm
        · have h := zite_n h c
          refine g_aload_n dX2_undo_104 0 rfl ?_
          refine gf_r zfd_2_0 q1410  (fun _ h9 => h9) dX2_undo_105 h (fun r35 h => ?_)
          refine g_sipush (v := (1425 : Int32)) dX2_undo_108 (by decide) ?_
          refine g_iload_n dX2_undo_111 2 rfl ?_
          refine g_iadd dX2_undo_112 ?_
          refine g_aload_n dX2_undo_113 0 rfl ?_
          refine gf_r zfd_2_0 q1410  (fun _ h9 => h9) dX2_undo_114 h (fun r36 h => ?_)
          refine g_iload_n dX2_undo_117 1 rfl ?_
          refine g_iconst (v := (1 : Int32)) dX2_undo_118 (by decide) ?_
          refine g_iadd dX2_undo_119 ?_
          refine g_bipush (v := (16 : Int32)) dX2_undo_120 (by decide) ?_
          refine g_iadd dX2_undo_122 ?_
          refine g_iload_n dX2_undo_123 2 rfl ?_
          refine g_iadd dX2_undo_124 ?_
          refine g_iald dX2_undo_125 h (fun v37 h => ?_)
          refine g_iast dX2_undo_126 h (fun m38 h => ?_)
          refine g_iinc (v := (1 : Int32)) [(0, va_rf a0), (1, .int v8)] dX2_undo_127 2 rfl (by decide) (by decide) (zf_r (zf_i (zf_i zf_0))) rfl h (fun v39 h => ?_)
          refine g_goto 98 dX2_undo_130 (by decide) ?_
          refine zG.sub [1, 2, 0] rfl ?_
          have e := Option.some.inj h
          exact K32 _ _ e.symm
      refine zG.sub [1, 2, 0] rfl ?_
      refine zLoop_ok (Φ := (fun (q : Int32 × zMm) => match q with | (v24, m25) => zG X cX2_undo 3 "QuiverKinModel" "undo" 2 41 75 [(0, va_rf a0), (1, .int v8), (2, .int v24)] [] g m25)) o21 ?_ zFuel _ h1
      rintro ⟨v24, m25⟩ x23 h hl23 hr23
      unfold b_X2_undo_75 at h
      have K23 : ∀ (v24 : Int32) (m25 : zMm), x23 = .inr (v24, m25) → zG X cX2_undo 3 "QuiverKinModel" "undo" 2 41 75 [(0, va_rf a0), (1, .int v8), (2, .int v24)] [] g m25 := by
        intro v24 m25 e
        exact hr23 _ e
      show zG X cX2_undo 3 "QuiverKinModel" "undo" 2 41 75 [(0, va_rf a0), (1, .int v8), (2, .int v24)] [] g m25
      refine g_iload_n dX2_undo_75 2 rfl ?_
      refine g_aload_n dX2_undo_76 0 rfl ?_
      refine gf_r zfd_2_0 q1410  (fun _ h9 => h9) dX2_undo_77 h (fun r26 h => ?_)
      refine g_iconst (v := (0 : Int32)) dX2_undo_80 (by decide) ?_
      refine g_iald dX2_undo_81 h (fun v27 h => ?_)
      refine g_icmp_ge 96 dX2_undo_82 (by decide) (fun c => ?_) (fun c => ?_)
      · have h := zite_p h c
        refine zG.sub [0, 1] rfl ?_
        have e := Option.some.inj h
        have e := hl23 _ e.symm
        exact K21 _ e.symm
      · have h := zite_n h c
        refine g_aload_n dX2_undo_85 0 rfl ?_
        refine g_iload_n dX2_undo_86 2 rfl ?_
        refine g_cVMn [.int v24] (fun m0 e0 => ok_X2_begin (xl X) g m25 a0 v24 m0 e0) zc2 (by decide) (lw_V q1537 q1539 qs54 q126 q1540) rfl hy_X2_begin rfl ⟨by decide, by decide⟩ rfl zc_0 (by decide) dX2_undo_87 h (fun m28 h => ?_)
        refine g_iinc (v := (1 : Int32)) [(0, va_rf a0), (1, .int v8)] dX2_undo_90 2 rfl (by decide) (by decide) (zf_r (zf_i (zf_i zf_0))) rfl h (fun v29 h => ?_)
        refine g_goto 75 dX2_undo_93 (by decide) ?_
        refine zG.sub [1, 2, 0] rfl ?_
        have e := Option.some.inj h
        exact K23 _ _ e.symm
    refine zG.sub [2, 1, 0] rfl ?_
    refine zLoop_ok (Φ := (fun (q : Int32 × zMm) => match q with | (v12, m13) => zG X cX2_undo 3 "QuiverKinModel" "undo" 2 41 37 [(0, va_rf a0), (1, .int v8), (2, .int v12)] [] g m13)) o9 ?_ zFuel _ h1
    rintro ⟨v12, m13⟩ x11 h hl11 hr11
    unfold b_X2_undo_37 at h
    have K11 : ∀ (v12 : Int32) (m13 : zMm), x11 = .inr (v12, m13) → zG X cX2_undo 3 "QuiverKinModel" "undo" 2 41 37 [(0, va_rf a0), (1, .int v8), (2, .int v12)] [] g m13 := by
      intro v12 m13 e
      exact hr11 _ e
    show zG X cX2_undo 3 "QuiverKinModel" "undo" 2 41 37 [(0, va_rf a0), (1, .int v8), (2, .int v12)] [] g m13
    refine g_iload_n dX2_undo_37 2 rfl ?_
    refine g_bipush (v := (16 : Int32)) dX2_undo_38 (by decide) ?_
    refine g_icmp_ge 68 dX2_undo_40 (by decide) (fun c => ?_) (fun c => ?_)
    · have h := zite_p h c
      refine zG.sub [0, 1] rfl ?_
      have e := Option.some.inj h
      have e := hl11 _ e.symm
      exact K9 _ e.symm
    · have h := zite_n h c
      refine g_aload_n dX2_undo_43 0 rfl ?_
      refine gf_r zfd_2_0 q1410  (fun _ h9 => h9) dX2_undo_44 h (fun r14 h => ?_)
      refine g_bipush (v := (7 : Int32)) dX2_undo_47 (by decide) ?_
      refine g_iload_n dX2_undo_49 2 rfl ?_
      refine g_iadd dX2_undo_50 ?_
      refine g_aload_n dX2_undo_51 0 rfl ?_
      refine gf_r zfd_2_0 q1410  (fun _ h9 => h9) dX2_undo_52 h (fun r15 h => ?_)
      refine g_iload_n dX2_undo_55 1 rfl ?_
      refine g_iconst (v := (1 : Int32)) dX2_undo_56 (by decide) ?_
      refine g_iadd dX2_undo_57 ?_
      refine g_iload_n dX2_undo_58 2 rfl ?_
      refine g_iadd dX2_undo_59 ?_
      refine g_iald dX2_undo_60 h (fun v16 h => ?_)
      refine g_iast dX2_undo_61 h (fun m17 h => ?_)
      refine g_iinc (v := (1 : Int32)) [(0, va_rf a0), (1, .int v8)] dX2_undo_62 2 rfl (by decide) (by decide) (zf_r (zf_i (zf_i zf_0))) rfl h (fun v18 h => ?_)
      refine g_goto 37 dX2_undo_65 (by decide) ?_
      refine zG.sub [1, 2, 0] rfl ?_
      have e := Option.some.inj h
      exact K11 _ _ e.symm
  · have h := zite_p h c
    refine g_iconst (v := (-1 : Int32)) dX2_undo_9 (by decide) ?_
    refine g_iret dX2_undo_10 hxt ?_
    have e := Option.some.inj h
    exact Kret _ _ e
/-! QuiverKinModel.isStrapped -/
def f_X2_isStrapped (g : zGd) (m : zMm) (a0 : Option Nat) (a1 : Int32) : Option (Int32) :=
(zgr g m 2 0 a0).bind fun r1 =>
(zald 101 g m r1 (10 : Int32)).bind fun v2 =>
(f_X2_has v2 a1).bind fun v3 =>
(zbo v3).bind fun z =>
some (z)
theorem hy_X2_isStrapped : zHy yX2_isStrapped 1 := ⟨by decide, by decide, by decide +kernel⟩
set_option maxHeartbeats 4000000 in
theorem ok_X2_isStrapped (l : Launch) (g : zGd) (m : zMm) (a0 : Option Nat) (a1 : Int32) (z0 : Int32) (h : f_X2_isStrapped g m a0 a1 = some z0) : zCT l yX2_isStrapped cX2_isStrapped 2 (some .boolean) 2 41 g m [va_rf a0, .int a1] (some (.int z0)) g m := by
  refine zCT.of (own := "QuiverKinModel") (mn := "isStrapped") (by decide +kernel) rfl rfl (zla_r (zla_i zla_0)) (zls_r (zls_i zls_0)) (by decide) (fun X hxl hxg hxf hxt hxr hxn => ?_)
  have Kret : ∀ (y0 : Int32), y0 = z0 → zRe X g m (some (.int y0)) := by
    intro y0 e; cases e; exact ⟨hxf, hxr, hxn⟩
  subst hxl
  show zG X cX2_isStrapped 2 "QuiverKinModel" "isStrapped" 2 41 0 [(0, va_rf a0), (1, .int a1)] [] g m
  unfold f_X2_isStrapped at h
  refine g_aload_n dX2_isStrapped_0 0 rfl ?_
  refine gf_r zfd_2_0 q1410  (fun _ h9 => h9) dX2_isStrapped_1 h (fun r1 h => ?_)
  refine g_bipush (v := (10 : Int32)) dX2_isStrapped_4 (by decide) ?_
  refine g_iald dX2_isStrapped_6 h (fun v2 h => ?_)
  refine g_iload_n dX2_isStrapped_7 1 rfl ?_
  refine g_cSRv (rv := fun x : Int32 => Value.int x) [.int v2, .int a1] (fun x0 e0 => ok_X2_has (xl X) g m v2 a1 x0 e0) (lw_S q1619 q1620 q126 q1621) hy_X2_has rfl ⟨by decide, by decide⟩ rfl zc_0 (by decide) dX2_isStrapped_8 h (fun v3 h => ?_)
  obtain ⟨hn, h⟩ := zbo_e h
  refine g_zret dX2_isStrapped_11 hxt hn ?_
  have e := Option.some.inj h
  exact Kret _ e
/-! QuiverKinModel.keep -/
def b_X2_keep_13 (g : zGd) (a0 : Option Nat) : Int32 × zMm → Option ((zMm) ⊕ (Int32 × zMm)) := fun (v8, m9) =>
if (1218 : Int32) ≤ v8 then (some (.inl m9))
else ((zgr g m9 2 0 a0).bind fun r10 =>
(zgr g m9 2 0 a0).bind fun r11 =>
(zald 101 g m9 r11 ((207 : Int32) + v8)).bind fun v12 =>
(zast 101 g m9 r10 ((165 : Int32) + v8) v12).bind fun m13 =>
zlt (v8 + (1 : Int32)) fun v14 =>
some (.inr (v14, m13)))
def b_X2_keep_84 (g : zGd) (a0 : Option Nat) (v20 : Int32) : Int32 × zMm → Option ((zMm) ⊕ (Int32 × zMm)) := fun (v28, m29) =>
if (16 : Int32) ≤ v28 then (some (.inl m29))
else ((zgr g m29 2 0 a0).bind fun r30 =>
(zgr g m29 2 0 a0).bind fun r31 =>
(zald 101 g m29 r31 ((7 : Int32) + v28)).bind fun v32 =>
(zast 101 g m29 r30 ((v20 + (1 : Int32)) + v28) v32).bind fun m33 =>
zlt (v28 + (1 : Int32)) fun v34 =>
some (.inr (v34, m33)))
def b_X2_keep_117 (g : zGd) (a0 : Option Nat) (v20 : Int32) : Int32 × zMm → Option ((zMm) ⊕ (Int32 × zMm)) := fun (v38, m39) =>
if (25 : Int32) ≤ v38 then (some (.inl m39))
else ((zgr g m39 2 0 a0).bind fun r40 =>
(zgr g m39 2 0 a0).bind fun r41 =>
(zald 101 g m39 r41 ((1425 : Int32) + v38)).bind fun v42 =>
(zast 101 g m39 r40 (((v20 + (1 : Int32)) + (16 : Int32)) + v38) v42).bind fun m43 =>
zlt (v38 + (1 : Int32)) fun v44 =>
some (.inr (v44, m43)))
def f_X2_keep (g : zGd) (m : zMm) (a0 : Option Nat) : Option (zMm) :=
(zgr g m 2 0 a0).bind fun r1 =>
(zald 101 g m r1 (3 : Int32)).bind fun v2 =>
((if v2 = (30 : Int32) then ((zLoop (b_X2_keep_13 g a0) zFuel ((0 : Int32), m)).bind fun m6 =>
(zgr g m6 2 0 a0).bind fun r15 =>
(zald 101 g m6 r15 (3 : Int32)).bind fun v16 =>
(zast 101 g m6 r15 (3 : Int32) (v16 - (1 : Int32))).bind fun m17 =>
some (m17))
else (some (m)) : Option (zMm))).bind fun m4 =>
(zgr g m4 2 0 a0).bind fun r18 =>
(zald 101 g m4 r18 (3 : Int32)).bind fun v19 =>
zlt ((165 : Int32) + ((42 : Int32) * v19)) fun v20 =>
(zgr g m4 2 0 a0).bind fun r21 =>
(zgr g m4 2 0 a0).bind fun r22 =>
(zald 101 g m4 r22 (0 : Int32)).bind fun v23 =>
(zast 101 g m4 r21 v20 v23).bind fun m24 =>
(zLoop (b_X2_keep_84 g a0 v20) zFuel ((0 : Int32), m24)).bind fun m26 =>
(zLoop (b_X2_keep_117 g a0 v20) zFuel ((0 : Int32), m26)).bind fun m36 =>
(zgr g m36 2 0 a0).bind fun r45 =>
(zald 101 g m36 r45 (3 : Int32)).bind fun v46 =>
(zast 101 g m36 r45 (3 : Int32) (v46 + (1 : Int32))).bind fun m47 =>
some (m47)
theorem hy_X2_keep : zHy yX2_keep 0 := ⟨by decide, by decide, by decide +kernel⟩
set_option maxHeartbeats 4000000 in
theorem ok_X2_keep (l : Launch) (g : zGd) (m : zMm) (a0 : Option Nat) (m0 : zMm) (h : f_X2_keep g m a0 = some m0) : zCT l yX2_keep cX2_keep 3 none 1 20 g m [va_rf a0] none g m0 := by
  refine zCT.of (own := "QuiverKinModel") (mn := "keep") (by decide +kernel) rfl rfl (zla_r zla_0) (zls_r zls_0) (by decide) (fun X hxl hxg hxf hxt hxr hxn => ?_)
  have Kret : ∀ (y0 : zMm), y0 = m0 → zRe X g y0 none := by
    intro y0 e; cases e; exact ⟨hxf, hxr, hxn⟩
  subst hxl
  show zG X cX2_keep 3 "QuiverKinModel" "keep" 1 20 0 [(0, va_rf a0)] [] g m
  unfold f_X2_keep at h
  refine g_aload_n dX2_keep_0 0 rfl ?_
  refine gf_r zfd_2_0 q1410  (fun _ h9 => h9) dX2_keep_1 h (fun r1 h => ?_)
  refine g_iconst (v := (3 : Int32)) dX2_keep_4 (by decide) ?_
  refine g_iald dX2_keep_5 h (fun v2 h => ?_)
  refine g_bipush (v := (30 : Int32)) dX2_keep_6 (by decide) ?_
  obtain ⟨o3, h1, h2⟩ := zB_e h
  have K3 : ∀ (m4 : zMm), o3 = m4 → zG X cX2_keep 3 "QuiverKinModel" "keep" 1 20 56 [(0, va_rf a0)] [] g m4 := by
    intro m4 e
    rw [e] at h2
    have h := h2
    refine g_sipush (v := (165 : Int32)) dX2_keep_56 (by decide) ?_
    refine g_bipush (v := (42 : Int32)) dX2_keep_59 (by decide) ?_
    refine g_aload_n dX2_keep_61 0 rfl ?_
    refine gf_r zfd_2_0 q1410  (fun _ h9 => h9) dX2_keep_62 h (fun r18 h => ?_)
    refine g_iconst (v := (3 : Int32)) dX2_keep_65 (by decide) ?_
    refine g_iald dX2_keep_66 h (fun v19 h => ?_)
    refine g_imul dX2_keep_67 ?_
    refine g_iadd dX2_keep_68 ?_
    refine g_leti h (fun v20 h => ?_)
    refine g_istore_n [(1, .int v20), (0, va_rf a0)] dX2_keep_69 (by decide) (zf_r zf_0) rfl ?_
    refine g_aload_n dX2_keep_70 1 rfl ?_
    refine gf_r zfd_2_0 q1410  (fun _ h9 => h9) dX2_keep_71 h (fun r21 h => ?_)
    refine g_iload_n dX2_keep_74 0 rfl ?_
    refine g_aload_n dX2_keep_75 1 rfl ?_
    refine gf_r zfd_2_0 q1410  (fun _ h9 => h9) dX2_keep_76 h (fun r22 h => ?_)
    refine g_iconst (v := (0 : Int32)) dX2_keep_79 (by decide) ?_
    refine g_iald dX2_keep_80 h (fun v23 h => ?_)
    refine g_iast dX2_keep_81 h (fun m24 h => ?_)
    refine g_iconst (v := (0 : Int32)) dX2_keep_82 (by decide) ?_
    refine g_istore_n [(2, .int (0 : Int32)), (1, .int v20), (0, va_rf a0)] dX2_keep_83 (by decide) (zf_i (zf_r zf_0)) rfl ?_
    obtain ⟨o25, h1, h2⟩ := zB_e h
    have K25 : ∀ (m26 : zMm), o25 = m26 → zG X cX2_keep 3 "QuiverKinModel" "keep" 1 20 115 [(0, va_rf a0), (1, .int v20)] [] g m26 := by
      intro m26 e
      rw [e] at h2
      have h := h2
      refine g_iconst (v := (0 : Int32)) dX2_keep_115 (by decide) ?_
      refine g_istore_n [(2, .int (0 : Int32)), (0, va_rf a0), (1, .int v20)] dX2_keep_116 (by decide) (zf_r (zf_i zf_0)) rfl ?_
      obtain ⟨o35, h1, h2⟩ := zB_e h
      have K35 : ∀ (m36 : zMm), o35 = m36 → zG X cX2_keep 3 "QuiverKinModel" "keep" 1 20 152 [(0, va_rf a0)] [] g m36 := by
        intro m36 e
        rw [e] at h2
        have h := h2
        refine g_aload_n dX2_keep_152 0 rfl ?_
        refine gf_r zfd_2_0 q1410  (fun _ h9 => h9) dX2_keep_153 h (fun r45 h => ?_)
        refine g_iconst (v := (3 : Int32)) dX2_keep_156 (by decide) ?_
        refine g_dup2 dX2_keep_157 rfl (zcat_r _) ?_
        refine g_iald dX2_keep_158 h (fun v46 h => ?_)
        refine g_iconst (v := (1 : Int32)) dX2_keep_159 (by decide) ?_
        refine g_iadd dX2_keep_160 ?_
        refine g_iast dX2_keep_161 h (fun m47 h => ?_)
        refine g_vret dX2_keep_162 hxt ?_
        have e := Option.some.inj h
        exact Kret _ e
      refine zG.sub [1, 2, 0] rfl ?_
      refine zLoop_ok (Φ := (fun (q : Int32 × zMm) => match q with | (v38, m39) => zG X cX2_keep 3 "QuiverKinModel" "keep" 1 20 117 [(0, va_rf a0), (1, .int v20), (2, .int v38)] [] g m39)) o35 ?_ zFuel _ h1
      rintro ⟨v38, m39⟩ x37 h hl37 hr37
      unfold b_X2_keep_117 at h
      have K37 : ∀ (v38 : Int32) (m39 : zMm), x37 = .inr (v38, m39) → zG X cX2_keep 3 "QuiverKinModel" "keep" 1 20 117 [(0, va_rf a0), (1, .int v20), (2, .int v38)] [] g m39 := by
        intro v38 m39 e
        exact hr37 _ e
      show zG X cX2_keep 3 "QuiverKinModel" "keep" 1 20 117 [(0, va_rf a0), (1, .int v20), (2, .int v38)] [] g m39
      refine g_iload_n dX2_keep_117 2 rfl ?_
      refine g_bipush (v := (25 : Int32)) dX2_keep_118 (by decide) ?_
      refine g_icmp_ge 152 dX2_keep_120 (by decide) (fun c => ?_) (fun c => ?_)
      · have h := zite_p h c
        refine zG.sub [0] rfl ?_
        have e := Option.some.inj h
        have e := hl37 _ e.symm
        exact K35 _ e.symm
      · have h := zite_n h c
        refine g_aload_n dX2_keep_123 0 rfl ?_
        refine gf_r zfd_2_0 q1410  (fun _ h9 => h9) dX2_keep_124 h (fun r40 h => ?_)
        refine g_iload_n dX2_keep_127 1 rfl ?_
        refine g_iconst (v := (1 : Int32)) dX2_keep_128 (by decide) ?_
        refine g_iadd dX2_keep_129 ?_
        refine g_bipush (v := (16 : Int32)) dX2_keep_130 (by decide) ?_
        refine g_iadd dX2_keep_132 ?_
        refine g_iload_n dX2_keep_133 2 rfl ?_
        refine g_iadd dX2_keep_134 ?_
        refine g_aload_n dX2_keep_135 0 rfl ?_
        refine gf_r zfd_2_0 q1410  (fun _ h9 => h9) dX2_keep_136 h (fun r41 h => ?_)
        refine g_sipush (v := (1425 : Int32)) dX2_keep_139 (by decide) ?_
        refine g_iload_n dX2_keep_142 2 rfl ?_
        refine g_iadd dX2_keep_143 ?_
        refine g_iald dX2_keep_144 h (fun v42 h => ?_)
        refine g_iast dX2_keep_145 h (fun m43 h => ?_)
        refine g_iinc (v := (1 : Int32)) [(0, va_rf a0), (1, .int v20)] dX2_keep_146 2 rfl (by decide) (by decide) (zf_r (zf_i (zf_i zf_0))) rfl h (fun v44 h => ?_)
        refine g_goto 117 dX2_keep_149 (by decide) ?_
        refine zG.sub [1, 2, 0] rfl ?_
        have e := Option.some.inj h
        exact K37 _ _ e.symm
    refine zG.sub [2, 1, 0] rfl ?_
    refine zLoop_ok (Φ := (fun (q : Int32 × zMm) => match q with | (v28, m29) => zG X cX2_keep 3 "QuiverKinModel" "keep" 1 20 84 [(0, va_rf a0), (1, .int v20), (2, .int v28)] [] g m29)) o25 ?_ zFuel _ h1
    rintro ⟨v28, m29⟩ x27 h hl27 hr27
    unfold b_X2_keep_84 at h
    have K27 : ∀ (v28 : Int32) (m29 : zMm), x27 = .inr (v28, m29) → zG X cX2_keep 3 "QuiverKinModel" "keep" 1 20 84 [(0, va_rf a0), (1, .int v20), (2, .int v28)] [] g m29 := by
      intro v28 m29 e
      exact hr27 _ e
    show zG X cX2_keep 3 "QuiverKinModel" "keep" 1 20 84 [(0, va_rf a0), (1, .int v20), (2, .int v28)] [] g m29
    refine g_iload_n dX2_keep_84 2 rfl ?_
    refine g_bipush (v := (16 : Int32)) dX2_keep_85 (by decide) ?_
    refine g_icmp_ge 115 dX2_keep_87 (by decide) (fun c => ?_) (fun c => ?_)
    · have h := zite_p h c
      refine zG.sub [0, 1] rfl ?_
      have e := Option.some.inj h
      have e := hl27 _ e.symm
      exact K25 _ e.symm
    · have h := zite_n h c
      refine g_aload_n dX2_keep_90 0 rfl ?_
      refine gf_r zfd_2_0 q1410  (fun _ h9 => h9) dX2_keep_91 h (fun r30 h => ?_)
      refine g_iload_n dX2_keep_94 1 rfl ?_
      refine g_iconst (v := (1 : Int32)) dX2_keep_95 (by decide) ?_
      refine g_iadd dX2_keep_96 ?_
      refine g_iload_n dX2_keep_97 2 rfl ?_
      refine g_iadd dX2_keep_98 ?_
      refine g_aload_n dX2_keep_99 0 rfl ?_
      refine gf_r zfd_2_0 q1410  (fun _ h9 => h9) dX2_keep_100 h (fun r31 h => ?_)
      refine g_bipush (v := (7 : Int32)) dX2_keep_103 (by decide) ?_
      refine g_iload_n dX2_keep_105 2 rfl ?_
      refine g_iadd dX2_keep_106 ?_
      refine g_iald dX2_keep_107 h (fun v32 h => ?_)
      refine g_iast dX2_keep_108 h (fun m33 h => ?_)
      refine g_iinc (v := (1 : Int32)) [(0, va_rf a0), (1, .int v20)] dX2_keep_109 2 rfl (by decide) (by decide) (zf_r (zf_i (zf_i zf_0))) rfl h (fun v34 h => ?_)
      refine g_goto 84 dX2_keep_112 (by decide) ?_
      refine zG.sub [1, 2, 0] rfl ?_
      have e := Option.some.inj h
      exact K27 _ _ e.symm
  have h := h1
  refine g_icmp_ne 56 dX2_keep_8 (by decide) (fun c => ?_) (fun c => ?_)
  · have h := zite_n h c
    refine zG.sub [0] rfl ?_
    have e := Option.some.inj h
    exact K3 _ e.symm
  · have h := zite_p h c
    refine g_iconst (v := (0 : Int32)) dX2_keep_11 (by decide) ?_
    refine g_istore_n [(1, .int (0 : Int32)), (0, va_rf a0)] dX2_keep_12 (by decide) (zf_r zf_0) rfl ?_
    obtain ⟨o5, h1, h2⟩ := zB_e h
    have K5 : ∀ (m6 : zMm), o5 = m6 → zG X cX2_keep 3 "QuiverKinModel" "keep" 1 20 46 [(0, va_rf a0)] [] g m6 := by
      intro m6 e
      rw [e] at h2
      have h := h2
      refine g_aload_n dX2_keep_46 0 rfl ?_
      refine gf_r zfd_2_0 q1410  (fun _ h9 => h9) dX2_keep_47 h (fun r15 h => ?_)
      refine g_iconst (v := (3 : Int32)) dX2_keep_50 (by decide) ?_
      refine g_dup2 dX2_keep_51 rfl (zcat_r _) ?_
      refine g_iald dX2_keep_52 h (fun v16 h => ?_)
      refine g_iconst (v := (1 : Int32)) dX2_keep_53 (by decide) ?_
      refine g_isub dX2_keep_54 ?_
      refine g_iast dX2_keep_55 h (fun m17 h => ?_)
      refine zG.sub [0] rfl ?_
      have e := Option.some.inj h
      exact K3 _ e.symm
    refine zG.sub [1, 0] rfl ?_
    refine zLoop_ok (Φ := (fun (q : Int32 × zMm) => match q with | (v8, m9) => zG X cX2_keep 3 "QuiverKinModel" "keep" 1 20 13 [(0, va_rf a0), (1, .int v8)] [] g m9)) o5 ?_ zFuel _ h1
    rintro ⟨v8, m9⟩ x7 h hl7 hr7
    unfold b_X2_keep_13 at h
    have K7 : ∀ (v8 : Int32) (m9 : zMm), x7 = .inr (v8, m9) → zG X cX2_keep 3 "QuiverKinModel" "keep" 1 20 13 [(0, va_rf a0), (1, .int v8)] [] g m9 := by
      intro v8 m9 e
      exact hr7 _ e
    show zG X cX2_keep 3 "QuiverKinModel" "keep" 1 20 13 [(0, va_rf a0), (1, .int v8)] [] g m9
    refine g_iload_n dX2_keep_13 1 rfl ?_
    refine g_sipush (v := (1218 : Int32)) dX2_keep_14 (by decide) ?_
    refine g_icmp_ge 46 dX2_keep_17 (by decide) (fun c => ?_) (fun c => ?_)
    · have h := zite_p h c
      refine zG.sub [0] rfl ?_
      have e := Option.some.inj h
      have e := hl7 _ e.symm
      exact K5 _ e.symm
    · have h := zite_n h c
      refine g_aload_n dX2_keep_20 0 rfl ?_
      refine gf_r zfd_2_0 q1410  (fun _ h9 => h9) dX2_keep_21 h (fun r10 h => ?_)
      refine g_sipush (v := (165 : Int32)) dX2_keep_24 (by decide) ?_
      refine g_iload_n dX2_keep_27 1 rfl ?_
      refine g_iadd dX2_keep_28 ?_
      refine g_aload_n dX2_keep_29 0 rfl ?_
      refine gf_r zfd_2_0 q1410  (fun _ h9 => h9) dX2_keep_30 h (fun r11 h => ?_)
      refine g_sipush (v := (207 : Int32)) dX2_keep_33 (by decide) ?_
      refine g_iload_n dX2_keep_36 1 rfl ?_
      refine g_iadd dX2_keep_37 ?_
      refine g_iald dX2_keep_38 h (fun v12 h => ?_)
      refine g_iast dX2_keep_39 h (fun m13 h => ?_)
      refine g_iinc (v := (1 : Int32)) [(0, va_rf a0)] dX2_keep_40 1 rfl (by decide) (by decide) (zf_r (zf_i zf_0)) rfl h (fun v14 h => ?_)
      refine g_goto 13 dX2_keep_43 (by decide) ?_
      refine zG.sub [1, 0] rfl ?_
      have e := Option.some.inj h
      exact K7 _ _ e.symm
/-! QuiverKinModel.held -/
def f_X2_held (a0 : Int64) (a2 : Int32) (a3 : Int32) : Option (Int32) :=
if (a2.toInt64) ≤ a0 then (if a0 ≤ (a3.toInt64) then (some ((a0.toInt32)))
else (some (a3)))
else (some (a2))
theorem hy_X2_held : zHy yX2_held 3 := ⟨by decide, by decide, by decide +kernel⟩
set_option maxHeartbeats 4000000 in
theorem ok_X2_held (l : Launch) (g : zGd) (m : zMm) (a0 : Int64) (a2 : Int32) (a3 : Int32) (z0 : Int32) (h : f_X2_held a0 a2 a3 = some z0) : zCT l yX2_held cX2_held 4 (some .int) 1 20 g m [.long a0, .int a2, .int a3] (some (.int z0)) g m := by
  refine zCT.of (own := "QuiverKinModel") (mn := "held") (by decide +kernel) rfl rfl (zla_l (zla_i (zla_i zla_0))) (zls_l (zls_i (zls_i zls_0))) (by decide) (fun X hxl hxg hxf hxt hxr hxn => ?_)
  have Kret : ∀ (y0 : Int32), y0 = z0 → zRe X g m (some (.int y0)) := by
    intro y0 e; cases e; exact ⟨hxf, hxr, hxn⟩
  subst hxl
  show zG X cX2_held 4 "QuiverKinModel" "held" 1 20 0 [(0, .long a0), (2, .int a2), (3, .int a3)] [] g m
  unfold f_X2_held at h
  refine g_lload_n dX2_held_0 0 rfl ?_
  refine g_iload_n dX2_held_1 1 rfl ?_
  refine g_i2l dX2_held_2 ?_
  refine g_lcmp_ge 11 dX2_held_3 dX2_held_4 (by decide) (fun c => ?_) (fun c => ?_)
  · have h := zite_p h c
    refine g_lload_n dX2_held_11 0 rfl ?_
    refine g_iload_n dX2_held_12 2 rfl ?_
    refine g_i2l dX2_held_13 ?_
    refine g_lcmp_le 22 dX2_held_14 dX2_held_15 (by decide) (fun c => ?_) (fun c => ?_)
    · have h := zite_p h c
      refine g_lload_n dX2_held_22 0 rfl ?_
      refine g_l2i dX2_held_23 ?_
      refine g_iret dX2_held_24 hxt ?_
      have e := Option.some.inj h
      exact Kret _ e
    · have h := zite_n h c
      refine g_iload_n dX2_held_18 2 rfl ?_
      refine g_goto 24 dX2_held_19 (by decide) ?_
      refine g_iret dX2_held_24 hxt ?_
      have e := Option.some.inj h
      exact Kret _ e
  · have h := zite_n h c
    refine g_iload_n dX2_held_7 1 rfl ?_
    refine g_goto 24 dX2_held_8 (by decide) ?_
    refine g_iret dX2_held_24 hxt ?_
    have e := Option.some.inj h
    exact Kret _ e
/-! QuiverKinModel.more -/
def f_X2_more (g : zGd) (m : zMm) (a0 : Option Nat) (a1 : Int32) : Option (zMm) :=
(zgr g m 2 0 a0).bind fun r1 =>
(zgr g m 2 0 a0).bind fun r2 =>
(zald 101 g m r2 ((11 : Int32) + a1)).bind fun v3 =>
(f_X2_held ((v3 + (1 : Int32)).toInt64) (0 : Int32) (99 : Int32)).bind fun v4 =>
(zast 101 g m r1 ((11 : Int32) + a1) v4).bind fun m5 =>
some (m5)
theorem hy_X2_more : zHy yX2_more 1 := ⟨by decide, by decide, by decide +kernel⟩
set_option maxHeartbeats 4000000 in
theorem ok_X2_more (l : Launch) (g : zGd) (m : zMm) (a0 : Option Nat) (a1 : Int32) (m0 : zMm) (h : f_X2_more g m a0 a1 = some m0) : zCT l yX2_more cX2_more 2 none 2 43 g m [va_rf a0, .int a1] none g m0 := by
  refine zCT.of (own := "QuiverKinModel") (mn := "more") (by decide +kernel) rfl rfl (zla_r (zla_i zla_0)) (zls_r (zls_i zls_0)) (by decide) (fun X hxl hxg hxf hxt hxr hxn => ?_)
  have Kret : ∀ (y0 : zMm), y0 = m0 → zRe X g y0 none := by
    intro y0 e; cases e; exact ⟨hxf, hxr, hxn⟩
  subst hxl
  show zG X cX2_more 2 "QuiverKinModel" "more" 2 43 0 [(0, va_rf a0), (1, .int a1)] [] g m
  unfold f_X2_more at h
  refine g_aload_n dX2_more_0 0 rfl ?_
  refine gf_r zfd_2_0 q1410  (fun _ h9 => h9) dX2_more_1 h (fun r1 h => ?_)
  refine g_bipush (v := (11 : Int32)) dX2_more_4 (by decide) ?_
  refine g_iload_n dX2_more_6 1 rfl ?_
  refine g_iadd dX2_more_7 ?_
  refine g_aload_n dX2_more_8 0 rfl ?_
  refine gf_r zfd_2_0 q1410  (fun _ h9 => h9) dX2_more_9 h (fun r2 h => ?_)
  refine g_bipush (v := (11 : Int32)) dX2_more_12 (by decide) ?_
  refine g_iload_n dX2_more_14 1 rfl ?_
  refine g_iadd dX2_more_15 ?_
  refine g_iald dX2_more_16 h (fun v3 h => ?_)
  refine g_iconst (v := (1 : Int32)) dX2_more_17 (by decide) ?_
  refine g_iadd dX2_more_18 ?_
  refine g_i2l dX2_more_19 ?_
  refine g_iconst (v := (0 : Int32)) dX2_more_20 (by decide) ?_
  refine g_bipush (v := (99 : Int32)) dX2_more_21 (by decide) ?_
  refine g_cSRv (rv := fun x : Int32 => Value.int x) [.long ((v3 + (1 : Int32)).toInt64), .int (0 : Int32), .int (99 : Int32)] (fun x0 e0 => ok_X2_held (xl X) g m ((v3 + (1 : Int32)).toInt64) (0 : Int32) (99 : Int32) x0 e0) (lw_S q1729 q1730 q126 q1731) hy_X2_held rfl ⟨by decide, by decide⟩ rfl (zc_i (zc_r zc_0)) (by decide) dX2_more_23 h (fun v4 h => ?_)
  refine g_iast dX2_more_26 h (fun m5 h => ?_)
  refine g_vret dX2_more_27 hxt ?_
  have e := Option.some.inj h
  exact Kret _ e
/-! QuiverKinModel.reach -/
def f_X2_reach (g : zGd) (m : zMm) (a0 : Option Nat) (a1 : Int32) : Option (Int32 × zMm) :=
(zrc g 2 a0 (f_X2_isKin g m a0 a1)).bind fun v1 =>
if v1 = 0 then (some (((-1 : Int32), m)))
else ((zrc g 2 a0 (f_X2_isStrapped g m a0 a1)).bind fun v2 =>
if v2 = 0 then ((zrc g 2 a0 (f_X2_keep g m a0)).bind fun m3 =>
(zrc g 2 a0 (f_X2_more g m3 a0 a1)).bind fun m4 =>
(zgr g m4 2 0 a0).bind fun r5 =>
(zald 101 g m4 r5 ((11 : Int32) + a1)).bind fun v6 =>
some ((v6, m4)))
else (some (((-1 : Int32), m))))
theorem hy_X2_reach : zHy yX2_reach 1 := ⟨by decide, by decide, by decide +kernel⟩
set_option maxHeartbeats 4000000 in
theorem ok_X2_reach (l : Launch) (g : zGd) (m : zMm) (a0 : Option Nat) (a1 : Int32) (z0 : Int32) (m0 : zMm) (h : f_X2_reach g m a0 a1 = some (z0, m0)) : zCT l yX2_reach cX2_reach 2 (some .int) 3 64 g m [va_rf a0, .int a1] (some (.int z0)) g m0 := by
  refine zCT.of (own := "QuiverKinModel") (mn := "reach") (by decide +kernel) rfl rfl (zla_r (zla_i zla_0)) (zls_r (zls_i zls_0)) (by decide) (fun X hxl hxg hxf hxt hxr hxn => ?_)
  have Kret : ∀ (y0 : Int32) (y1 : zMm), (y0, y1) = (z0, m0) → zRe X g y1 (some (.int y0)) := by
    intro y0 y1 e; cases e; exact ⟨hxf, hxr, hxn⟩
  subst hxl
  show zG X cX2_reach 2 "QuiverKinModel" "reach" 3 64 0 [(0, va_rf a0), (1, .int a1)] [] g m
  unfold f_X2_reach at h
  refine g_aload_n dX2_reach_0 0 rfl ?_
  refine g_iload_n dX2_reach_1 1 rfl ?_
  refine g_cVRv (rv := fun x : Int32 => Value.int x) [.int a1] (fun x0 e0 => ok_X2_isKin (xl X) g m a0 a1 x0 e0) zc2 (by decide) (lw_V q1545 q1547 qs55 q126 q1548) rfl hy_X2_isKin rfl ⟨by decide, by decide⟩ rfl zc_0 (by decide) dX2_reach_2 h (fun v1 h => ?_)
  refine g_if_eq 16 dX2_reach_5 (by decide) (fun c => ?_) (fun c => ?_)
  · have h := zite_p h c
    refine g_iconst (v := (-1 : Int32)) dX2_reach_16 (by decide) ?_
    refine g_iret dX2_reach_17 hxt ?_
    have e := Option.some.inj h
    exact Kret _ _ e
  · have h := zite_n h c
    refine g_aload_n dX2_reach_8 0 rfl ?_
    refine g_iload_n dX2_reach_9 1 rfl ?_
    refine g_cVRv (rv := fun x : Int32 => Value.int x) [.int a1] (fun x0 e0 => ok_X2_isStrapped (xl X) g m a0 a1 x0 e0) zc2 (by decide) (lw_V q1717 q1719 qs83 q126 q1720) rfl hy_X2_isStrapped rfl ⟨by decide, by decide⟩ rfl zc_0 (by decide) dX2_reach_10 h (fun v2 h => ?_)
    refine g_if_eq 18 dX2_reach_13 (by decide) (fun c => ?_) (fun c => ?_)
    · have h := zite_p h c
      refine g_aload_n dX2_reach_18 0 rfl ?_
      refine g_cVMn [] (fun m0 e0 => ok_X2_keep (xl X) g m a0 m0 e0) zc2 (by decide) (lw_V q1721 q1723 qs84 q126 q1724) rfl hy_X2_keep rfl ⟨by decide, by decide⟩ rfl zc_0 (by decide) dX2_reach_19 h (fun m3 h => ?_)
      refine g_aload_n dX2_reach_22 0 rfl ?_
      refine g_iload_n dX2_reach_23 1 rfl ?_
      refine g_cVMn [.int a1] (fun m0 e0 => ok_X2_more (xl X) g m3 a0 a1 m0 e0) zc2 (by decide) (lw_V q1725 q1727 qs85 q126 q1728) rfl hy_X2_more rfl ⟨by decide, by decide⟩ rfl zc_0 (by decide) dX2_reach_24 h (fun m4 h => ?_)
      refine g_aload_n dX2_reach_27 0 rfl ?_
      refine gf_r zfd_2_0 q1410  (fun _ h9 => h9) dX2_reach_28 h (fun r5 h => ?_)
      refine g_bipush (v := (11 : Int32)) dX2_reach_31 (by decide) ?_
      refine g_iload_n dX2_reach_33 1 rfl ?_
      refine g_iadd dX2_reach_34 ?_
      refine g_iald dX2_reach_35 h (fun v6 h => ?_)
      refine g_iret dX2_reach_36 hxt ?_
      have e := Option.some.inj h
      exact Kret _ _ e
    · have h := zite_n h c
      refine g_iconst (v := (-1 : Int32)) dX2_reach_16 (by decide) ?_
      refine g_iret dX2_reach_17 hxt ?_
      have e := Option.some.inj h
      exact Kret _ _ e
/-! QuiverKinModel.canDown -/
def f_X2_canDown (g : zGd) (m : zMm) (a0 : Option Nat) (a1 : Int32) (a2 : Int32) : Option (Int32) :=
(zrc g 2 a0 (f_X2_isKin g m a0 a1)).bind fun v1 =>
if v1 = 0 then (some ((0 : Int32)))
else ((f_X2_isIn a2 (1 : Int32) (99 : Int32)).bind fun v2 =>
if v2 = 0 then (some ((0 : Int32)))
else ((zgr g m 2 0 a0).bind fun r3 =>
(zald 101 g m r3 ((11 : Int32) + a1)).bind fun v4 =>
if v4 < a2 then (some ((0 : Int32)))
else (some ((1 : Int32)))))
theorem hy_X2_canDown : zHy yX2_canDown 2 := ⟨by decide, by decide, by decide +kernel⟩
set_option maxHeartbeats 4000000 in
theorem ok_X2_canDown (l : Launch) (g : zGd) (m : zMm) (a0 : Option Nat) (a1 : Int32) (a2 : Int32) (z0 : Int32) (h : f_X2_canDown g m a0 a1 a2 = some z0) : zCT l yX2_canDown cX2_canDown 3 (some .boolean) 3 63 g m [va_rf a0, .int a1, .int a2] (some (.int z0)) g m := by
  refine zCT.of (own := "QuiverKinModel") (mn := "canDown") (by decide +kernel) rfl rfl (zla_r (zla_i (zla_i zla_0))) (zls_r (zls_i (zls_i zls_0))) (by decide) (fun X hxl hxg hxf hxt hxr hxn => ?_)
  have Kret : ∀ (y0 : Int32), y0 = z0 → zRe X g m (some (.int y0)) := by
    intro y0 e; cases e; exact ⟨hxf, hxr, hxn⟩
  subst hxl
  show zG X cX2_canDown 3 "QuiverKinModel" "canDown" 3 63 0 [(0, va_rf a0), (1, .int a1), (2, .int a2)] [] g m
  unfold f_X2_canDown at h
  refine g_aload_n dX2_canDown_0 0 rfl ?_
  refine g_iload_n dX2_canDown_1 1 rfl ?_
  refine g_cVRv (rv := fun x : Int32 => Value.int x) [.int a1] (fun x0 e0 => ok_X2_isKin (xl X) g m a0 a1 x0 e0) zc2 (by decide) (lw_V q1545 q1547 qs55 q126 q1548) rfl hy_X2_isKin rfl ⟨by decide, by decide⟩ rfl zc_0 (by decide) dX2_canDown_2 h (fun v1 h => ?_)
  refine g_if_eq 35 dX2_canDown_5 (by decide) (fun c => ?_) (fun c => ?_)
  · have h := zite_p h c
    refine g_iconst (v := (0 : Int32)) dX2_canDown_35 (by decide) ?_
    refine g_zret dX2_canDown_36 hxt rfl ?_
    have e := Option.some.inj h
    exact Kret _ e
  · have h := zite_n h c
    refine g_iload_n dX2_canDown_8 2 rfl ?_
    refine g_iconst (v := (1 : Int32)) dX2_canDown_9 (by decide) ?_
    refine g_bipush (v := (99 : Int32)) dX2_canDown_10 (by decide) ?_
    refine g_cSRv (rv := fun x : Int32 => Value.int x) [.int a2, .int (1 : Int32), .int (99 : Int32)] (fun x0 e0 => ok_X2_isIn (xl X) g m a2 (1 : Int32) (99 : Int32) x0 e0) (lw_S q1534 q1535 q126 q1536) hy_X2_isIn rfl ⟨by decide, by decide⟩ rfl zc_0 (by decide) dX2_canDown_12 h (fun v2 h => ?_)
    refine g_if_eq 35 dX2_canDown_15 (by decide) (fun c => ?_) (fun c => ?_)
    · have h := zite_p h c
      refine g_iconst (v := (0 : Int32)) dX2_canDown_35 (by decide) ?_
      refine g_zret dX2_canDown_36 hxt rfl ?_
      have e := Option.some.inj h
      exact Kret _ e
    · have h := zite_n h c
      refine g_aload_n dX2_canDown_18 0 rfl ?_
      refine gf_r zfd_2_0 q1410  (fun _ h9 => h9) dX2_canDown_19 h (fun r3 h => ?_)
      refine g_bipush (v := (11 : Int32)) dX2_canDown_22 (by decide) ?_
      refine g_iload_n dX2_canDown_24 1 rfl ?_
      refine g_iadd dX2_canDown_25 ?_
      refine g_iald dX2_canDown_26 h (fun v4 h => ?_)
      refine g_iload_n dX2_canDown_27 2 rfl ?_
      refine g_icmp_lt 35 dX2_canDown_28 (by decide) (fun c => ?_) (fun c => ?_)
      · have h := zite_p h c
        refine g_iconst (v := (0 : Int32)) dX2_canDown_35 (by decide) ?_
        refine g_zret dX2_canDown_36 hxt rfl ?_
        have e := Option.some.inj h
        exact Kret _ e
      · have h := zite_n h c
        refine g_iconst (v := (1 : Int32)) dX2_canDown_31 (by decide) ?_
        refine g_goto 36 dX2_canDown_32 (by decide) ?_
        refine g_zret dX2_canDown_36 hxt rfl ?_
        have e := Option.some.inj h
        exact Kret _ e
/-! QuiverKinModel.down -/
def f_X2_down (g : zGd) (m : zMm) (a0 : Option Nat) (a1 : Int32) (a2 : Int32) : Option (Int32 × zMm) :=
(zrc g 2 a0 (f_X2_canDown g m a0 a1 a2)).bind fun v1 =>
if v1 = 0 then (some (((0 : Int32), m)))
else ((zrc g 2 a0 (f_X2_keep g m a0)).bind fun m2 =>
(zgr g m2 2 0 a0).bind fun r3 =>
zlt ((11 : Int32) + a1) fun v4 =>
(zald 101 g m2 r3 v4).bind fun v5 =>
(zast 101 g m2 r3 v4 (v5 - a2)).bind fun m6 =>
some (((1 : Int32), m6)))
theorem hy_X2_down : zHy yX2_down 2 := ⟨by decide, by decide, by decide +kernel⟩
set_option maxHeartbeats 4000000 in
theorem ok_X2_down (l : Launch) (g : zGd) (m : zMm) (a0 : Option Nat) (a1 : Int32) (a2 : Int32) (z0 : Int32) (m0 : zMm) (h : f_X2_down g m a0 a1 a2 = some (z0, m0)) : zCT l yX2_down cX2_down 3 (some .boolean) 4 85 g m [va_rf a0, .int a1, .int a2] (some (.int z0)) g m0 := by
  refine zCT.of (own := "QuiverKinModel") (mn := "down") (by decide +kernel) rfl rfl (zla_r (zla_i (zla_i zla_0))) (zls_r (zls_i (zls_i zls_0))) (by decide) (fun X hxl hxg hxf hxt hxr hxn => ?_)
  have Kret : ∀ (y0 : Int32) (y1 : zMm), (y0, y1) = (z0, m0) → zRe X g y1 (some (.int y0)) := by
    intro y0 y1 e; cases e; exact ⟨hxf, hxr, hxn⟩
  subst hxl
  show zG X cX2_down 3 "QuiverKinModel" "down" 4 85 0 [(0, va_rf a0), (1, .int a1), (2, .int a2)] [] g m
  unfold f_X2_down at h
  refine g_aload_n dX2_down_0 0 rfl ?_
  refine g_iload_n dX2_down_1 1 rfl ?_
  refine g_iload_n dX2_down_2 2 rfl ?_
  refine g_cVRv (rv := fun x : Int32 => Value.int x) [.int a1, .int a2] (fun x0 e0 => ok_X2_canDown (xl X) g m a0 a1 a2 x0 e0) zc2 (by decide) (lw_V q1736 q1738 qs86 q126 q1739) rfl hy_X2_canDown rfl ⟨by decide, by decide⟩ rfl zc_0 (by decide) dX2_down_3 h (fun v1 h => ?_)
  refine g_if_ne 11 dX2_down_6 (by decide) (fun c => ?_) (fun c => ?_)
  · have h := zite_n h c
    refine g_aload_n dX2_down_11 0 rfl ?_
    refine g_cVMn [] (fun m0 e0 => ok_X2_keep (xl X) g m a0 m0 e0) zc2 (by decide) (lw_V q1721 q1723 qs84 q126 q1724) rfl hy_X2_keep rfl ⟨by decide, by decide⟩ rfl zc_0 (by decide) dX2_down_12 h (fun m2 h => ?_)
    refine g_aload_n dX2_down_15 0 rfl ?_
    refine gf_r zfd_2_0 q1410  (fun _ h9 => h9) dX2_down_16 h (fun r3 h => ?_)
    refine g_bipush (v := (11 : Int32)) dX2_down_19 (by decide) ?_
    refine g_iload_n dX2_down_21 1 rfl ?_
    refine g_iadd dX2_down_22 ?_
    refine g_leti h (fun v4 h => ?_)
    refine g_dup2 dX2_down_23 rfl (zcat_r _) ?_
    refine g_iald dX2_down_24 h (fun v5 h => ?_)
    refine g_iload_n dX2_down_25 2 rfl ?_
    refine g_isub dX2_down_26 ?_
    refine g_iast dX2_down_27 h (fun m6 h => ?_)
    refine g_iconst (v := (1 : Int32)) dX2_down_28 (by decide) ?_
    refine g_zret dX2_down_29 hxt rfl ?_
    have e := Option.some.inj h
    exact Kret _ _ e
  · have h := zite_p h c
    refine g_iconst (v := (0 : Int32)) dX2_down_9 (by decide) ?_
    refine g_zret dX2_down_10 hxt rfl ?_
    have e := Option.some.inj h
    exact Kret _ _ e
/-! QuiverKinModel.strap -/
def f_X2_strap (g : zGd) (m : zMm) (a0 : Option Nat) (a1 : Int32) : Option (Int32 × zMm) :=
(zrc g 2 a0 (f_X2_isKin g m a0 a1)).bind fun v1 =>
if v1 = 0 then (some (((0 : Int32), m)))
else ((zrc g 2 a0 (f_X2_keep g m a0)).bind fun m2 =>
(zgr g m2 2 0 a0).bind fun r3 =>
(zald 101 g m2 r3 (10 : Int32)).bind fun v4 =>
(zast 101 g m2 r3 (10 : Int32) (v4 ^^^ (zshl (1 : Int32) a1))).bind fun m5 =>
some (((1 : Int32), m5)))
theorem hy_X2_strap : zHy yX2_strap 1 := ⟨by decide, by decide, by decide +kernel⟩
set_option maxHeartbeats 4000000 in
theorem ok_X2_strap (l : Launch) (g : zGd) (m : zMm) (a0 : Option Nat) (a1 : Int32) (z0 : Int32) (m0 : zMm) (h : f_X2_strap g m a0 a1 = some (z0, m0)) : zCT l yX2_strap cX2_strap 2 (some .boolean) 3 63 g m [va_rf a0, .int a1] (some (.int z0)) g m0 := by
  refine zCT.of (own := "QuiverKinModel") (mn := "strap") (by decide +kernel) rfl rfl (zla_r (zla_i zla_0)) (zls_r (zls_i zls_0)) (by decide) (fun X hxl hxg hxf hxt hxr hxn => ?_)
  have Kret : ∀ (y0 : Int32) (y1 : zMm), (y0, y1) = (z0, m0) → zRe X g y1 (some (.int y0)) := by
    intro y0 y1 e; cases e; exact ⟨hxf, hxr, hxn⟩
  subst hxl
  show zG X cX2_strap 2 "QuiverKinModel" "strap" 3 63 0 [(0, va_rf a0), (1, .int a1)] [] g m
  unfold f_X2_strap at h
  refine g_aload_n dX2_strap_0 0 rfl ?_
  refine g_iload_n dX2_strap_1 1 rfl ?_
  refine g_cVRv (rv := fun x : Int32 => Value.int x) [.int a1] (fun x0 e0 => ok_X2_isKin (xl X) g m a0 a1 x0 e0) zc2 (by decide) (lw_V q1545 q1547 qs55 q126 q1548) rfl hy_X2_isKin rfl ⟨by decide, by decide⟩ rfl zc_0 (by decide) dX2_strap_2 h (fun v1 h => ?_)
  refine g_if_ne 10 dX2_strap_5 (by decide) (fun c => ?_) (fun c => ?_)
  · have h := zite_n h c
    refine g_aload_n dX2_strap_10 0 rfl ?_
    refine g_cVMn [] (fun m0 e0 => ok_X2_keep (xl X) g m a0 m0 e0) zc2 (by decide) (lw_V q1721 q1723 qs84 q126 q1724) rfl hy_X2_keep rfl ⟨by decide, by decide⟩ rfl zc_0 (by decide) dX2_strap_11 h (fun m2 h => ?_)
    refine g_aload_n dX2_strap_14 0 rfl ?_
    refine gf_r zfd_2_0 q1410  (fun _ h9 => h9) dX2_strap_15 h (fun r3 h => ?_)
    refine g_bipush (v := (10 : Int32)) dX2_strap_18 (by decide) ?_
    refine g_dup2 dX2_strap_20 rfl (zcat_r _) ?_
    refine g_iald dX2_strap_21 h (fun v4 h => ?_)
    refine g_iconst (v := (1 : Int32)) dX2_strap_22 (by decide) ?_
    refine g_iload_n dX2_strap_23 1 rfl ?_
    refine g_ishl dX2_strap_24 ?_
    refine g_ixor dX2_strap_25 ?_
    refine g_iast dX2_strap_26 h (fun m5 h => ?_)
    refine g_iconst (v := (1 : Int32)) dX2_strap_27 (by decide) ?_
    refine g_zret dX2_strap_28 hxt rfl ?_
    have e := Option.some.inj h
    exact Kret _ _ e
  · have h := zite_p h c
    refine g_iconst (v := (0 : Int32)) dX2_strap_8 (by decide) ?_
    refine g_zret dX2_strap_9 hxt rfl ?_
    have e := Option.some.inj h
    exact Kret _ _ e
/-! QuiverKinModel.swapNow -/
def f_X2_swapNow (g : zGd) (m : zMm) (a0 : Option Nat) (a1 : Int32) (a2 : Int32) : Option (zMm) :=
(zgr g m 2 0 a0).bind fun r1 =>
(zald 101 g m r1 ((17 : Int32) + a1)).bind fun v2 =>
(zgr g m 2 0 a0).bind fun r3 =>
(zgr g m 2 0 a0).bind fun r4 =>
(zald 101 g m r4 ((17 : Int32) + a2)).bind fun v5 =>
(zast 101 g m r3 ((17 : Int32) + a1) v5).bind fun m6 =>
(zgr g m6 2 0 a0).bind fun r7 =>
(zast 101 g m6 r7 ((17 : Int32) + a2) v2).bind fun m8 =>
some (m8)
theorem hy_X2_swapNow : zHy yX2_swapNow 2 := ⟨by decide, by decide, by decide +kernel⟩
set_option maxHeartbeats 4000000 in
theorem ok_X2_swapNow (l : Launch) (g : zGd) (m : zMm) (a0 : Option Nat) (a1 : Int32) (a2 : Int32) (m0 : zMm) (h : f_X2_swapNow g m a0 a1 a2 = some m0) : zCT l yX2_swapNow cX2_swapNow 4 none 1 20 g m [va_rf a0, .int a1, .int a2] none g m0 := by
  refine zCT.of (own := "QuiverKinModel") (mn := "swapNow") (by decide +kernel) rfl rfl (zla_r (zla_i (zla_i zla_0))) (zls_r (zls_i (zls_i zls_0))) (by decide) (fun X hxl hxg hxf hxt hxr hxn => ?_)
  have Kret : ∀ (y0 : zMm), y0 = m0 → zRe X g y0 none := by
    intro y0 e; cases e; exact ⟨hxf, hxr, hxn⟩
  subst hxl
  show zG X cX2_swapNow 4 "QuiverKinModel" "swapNow" 1 20 0 [(0, va_rf a0), (1, .int a1), (2, .int a2)] [] g m
  unfold f_X2_swapNow at h
  refine g_aload_n dX2_swapNow_0 0 rfl ?_
  refine gf_r zfd_2_0 q1410  (fun _ h9 => h9) dX2_swapNow_1 h (fun r1 h => ?_)
  refine g_bipush (v := (17 : Int32)) dX2_swapNow_4 (by decide) ?_
  refine g_iload_n dX2_swapNow_6 1 rfl ?_
  refine g_iadd dX2_swapNow_7 ?_
  refine g_iald dX2_swapNow_8 h (fun v2 h => ?_)
  refine g_istore_n [(3, .int v2), (0, va_rf a0), (1, .int a1), (2, .int a2)] dX2_swapNow_9 (by decide) (zf_r (zf_i (zf_i zf_0))) rfl ?_
  refine g_aload_n dX2_swapNow_10 1 rfl ?_
  refine gf_r zfd_2_0 q1410  (fun _ h9 => h9) dX2_swapNow_11 h (fun r3 h => ?_)
  refine g_bipush (v := (17 : Int32)) dX2_swapNow_14 (by decide) ?_
  refine g_iload_n dX2_swapNow_16 2 rfl ?_
  refine g_iadd dX2_swapNow_17 ?_
  refine g_aload_n dX2_swapNow_18 1 rfl ?_
  refine gf_r zfd_2_0 q1410  (fun _ h9 => h9) dX2_swapNow_19 h (fun r4 h => ?_)
  refine g_bipush (v := (17 : Int32)) dX2_swapNow_22 (by decide) ?_
  refine g_iload_n dX2_swapNow_24 3 rfl ?_
  refine g_iadd dX2_swapNow_25 ?_
  refine g_iald dX2_swapNow_26 h (fun v5 h => ?_)
  refine g_iast dX2_swapNow_27 h (fun m6 h => ?_)
  refine g_aload_n dX2_swapNow_28 1 rfl ?_
  refine gf_r zfd_2_0 q1410  (fun _ h9 => h9) dX2_swapNow_29 h (fun r7 h => ?_)
  refine g_bipush (v := (17 : Int32)) dX2_swapNow_32 (by decide) ?_
  refine g_iload_n dX2_swapNow_34 3 rfl ?_
  refine g_iadd dX2_swapNow_35 ?_
  refine g_iload_n dX2_swapNow_36 0 rfl ?_
  refine g_iast dX2_swapNow_37 h (fun m8 h => ?_)
  refine g_vret dX2_swapNow_38 hxt ?_
  have e := Option.some.inj h
  exact Kret _ e
/-! QuiverKinModel.swap -/
def f_X2_swap (g : zGd) (m : zMm) (a0 : Option Nat) (a1 : Int32) (a2 : Int32) : Option (Int32 × zMm) :=
(zrc g 2 a0 (f_X2_isKin g m a0 a1)).bind fun v1 =>
if v1 = 0 then (some (((0 : Int32), m)))
else ((zrc g 2 a0 (f_X2_isKin g m a0 a2)).bind fun v2 =>
if v2 = 0 then (some (((0 : Int32), m)))
else (if a1 = a2 then (some (((0 : Int32), m)))
else ((zrc g 2 a0 (f_X2_keep g m a0)).bind fun m3 =>
(zrc g 2 a0 (f_X2_swapNow g m3 a0 a1 a2)).bind fun m4 =>
some (((1 : Int32), m4)))))
theorem hy_X2_swap : zHy yX2_swap 2 := ⟨by decide, by decide, by decide +kernel⟩
set_option maxHeartbeats 4000000 in
theorem ok_X2_swap (l : Launch) (g : zGd) (m : zMm) (a0 : Option Nat) (a1 : Int32) (a2 : Int32) (z0 : Int32) (m0 : zMm) (h : f_X2_swap g m a0 a1 a2 = some (z0, m0)) : zCT l yX2_swap cX2_swap 3 (some .boolean) 3 63 g m [va_rf a0, .int a1, .int a2] (some (.int z0)) g m0 := by
  refine zCT.of (own := "QuiverKinModel") (mn := "swap") (by decide +kernel) rfl rfl (zla_r (zla_i (zla_i zla_0))) (zls_r (zls_i (zls_i zls_0))) (by decide) (fun X hxl hxg hxf hxt hxr hxn => ?_)
  have Kret : ∀ (y0 : Int32) (y1 : zMm), (y0, y1) = (z0, m0) → zRe X g y1 (some (.int y0)) := by
    intro y0 y1 e; cases e; exact ⟨hxf, hxr, hxn⟩
  subst hxl
  show zG X cX2_swap 3 "QuiverKinModel" "swap" 3 63 0 [(0, va_rf a0), (1, .int a1), (2, .int a2)] [] g m
  unfold f_X2_swap at h
  refine g_aload_n dX2_swap_0 0 rfl ?_
  refine g_iload_n dX2_swap_1 1 rfl ?_
  refine g_cVRv (rv := fun x : Int32 => Value.int x) [.int a1] (fun x0 e0 => ok_X2_isKin (xl X) g m a0 a1 x0 e0) zc2 (by decide) (lw_V q1545 q1547 qs55 q126 q1548) rfl hy_X2_isKin rfl ⟨by decide, by decide⟩ rfl zc_0 (by decide) dX2_swap_2 h (fun v1 h => ?_)
  refine g_if_eq 21 dX2_swap_5 (by decide) (fun c => ?_) (fun c => ?_)
  · have h := zite_p h c
    refine g_iconst (v := (0 : Int32)) dX2_swap_21 (by decide) ?_
    refine g_zret dX2_swap_22 hxt rfl ?_
    have e := Option.some.inj h
    exact Kret _ _ e
  · have h := zite_n h c
    refine g_aload_n dX2_swap_8 0 rfl ?_
    refine g_iload_n dX2_swap_9 2 rfl ?_
    refine g_cVRv (rv := fun x : Int32 => Value.int x) [.int a2] (fun x0 e0 => ok_X2_isKin (xl X) g m a0 a2 x0 e0) zc2 (by decide) (lw_V q1545 q1547 qs55 q126 q1548) rfl hy_X2_isKin rfl ⟨by decide, by decide⟩ rfl zc_0 (by decide) dX2_swap_10 h (fun v2 h => ?_)
    refine g_if_eq 21 dX2_swap_13 (by decide) (fun c => ?_) (fun c => ?_)
    · have h := zite_p h c
      refine g_iconst (v := (0 : Int32)) dX2_swap_21 (by decide) ?_
      refine g_zret dX2_swap_22 hxt rfl ?_
      have e := Option.some.inj h
      exact Kret _ _ e
    · have h := zite_n h c
      refine g_iload_n dX2_swap_16 1 rfl ?_
      refine g_iload_n dX2_swap_17 2 rfl ?_
      refine g_icmp_ne 23 dX2_swap_18 (by decide) (fun c => ?_) (fun c => ?_)
      · have h := zite_n h c
        refine g_aload_n dX2_swap_23 0 rfl ?_
        refine g_cVMn [] (fun m0 e0 => ok_X2_keep (xl X) g m a0 m0 e0) zc2 (by decide) (lw_V q1721 q1723 qs84 q126 q1724) rfl hy_X2_keep rfl ⟨by decide, by decide⟩ rfl zc_0 (by decide) dX2_swap_24 h (fun m3 h => ?_)
        refine g_aload_n dX2_swap_27 0 rfl ?_
        refine g_iload_n dX2_swap_28 1 rfl ?_
        refine g_iload_n dX2_swap_29 2 rfl ?_
        refine g_cVMn [.int a1, .int a2] (fun m0 e0 => ok_X2_swapNow (xl X) g m3 a0 a1 a2 m0 e0) zc2 (by decide) (lw_V q1748 q1750 qs87 q126 q1751) rfl hy_X2_swapNow rfl ⟨by decide, by decide⟩ rfl zc_0 (by decide) dX2_swap_30 h (fun m4 h => ?_)
        refine g_iconst (v := (1 : Int32)) dX2_swap_33 (by decide) ?_
        refine g_zret dX2_swap_34 hxt rfl ?_
        have e := Option.some.inj h
        exact Kret _ _ e
      · have h := zite_p h c
        refine g_iconst (v := (0 : Int32)) dX2_swap_21 (by decide) ?_
        refine g_zret dX2_swap_22 hxt rfl ?_
        have e := Option.some.inj h
        exact Kret _ _ e
/-! QuiverKinModel.whoAt -/
def b_X2_whoAt_2 (g : zGd) (m : zMm) (a0 : Option Nat) (a1 : Int32) : Int32 → Option ((Int32) ⊕ (Int32)) := fun v4 =>
(zgr g m 2 0 a0).bind fun r5 =>
(zald 101 g m r5 ((17 : Int32) + v4)).bind fun v6 =>
if v6 = a1 then (some (.inl v4))
else (zlt (v4 + (1 : Int32)) fun v7 =>
some (.inr v7))
def f_X2_whoAt (g : zGd) (m : zMm) (a0 : Option Nat) (a1 : Int32) : Option (Int32) :=
(zLoop (b_X2_whoAt_2 g m a0 a1) zFuel (0 : Int32)).bind fun v2 =>
some (v2)
theorem hy_X2_whoAt : zHy yX2_whoAt 1 := ⟨by decide, by decide, by decide +kernel⟩
set_option maxHeartbeats 4000000 in
theorem ok_X2_whoAt (l : Launch) (g : zGd) (m : zMm) (a0 : Option Nat) (a1 : Int32) (z0 : Int32) (h : f_X2_whoAt g m a0 a1 = some z0) : zCT l yX2_whoAt cX2_whoAt 3 (some .int) 1 20 g m [va_rf a0, .int a1] (some (.int z0)) g m := by
  refine zCT.of (own := "QuiverKinModel") (mn := "whoAt") (by decide +kernel) rfl rfl (zla_r (zla_i zla_0)) (zls_r (zls_i zls_0)) (by decide) (fun X hxl hxg hxf hxt hxr hxn => ?_)
  have Kret : ∀ (y0 : Int32), y0 = z0 → zRe X g m (some (.int y0)) := by
    intro y0 e; cases e; exact ⟨hxf, hxr, hxn⟩
  subst hxl
  show zG X cX2_whoAt 3 "QuiverKinModel" "whoAt" 1 20 0 [(0, va_rf a0), (1, .int a1)] [] g m
  unfold f_X2_whoAt at h
  refine g_iconst (v := (0 : Int32)) dX2_whoAt_0 (by decide) ?_
  refine g_istore_n [(2, .int (0 : Int32)), (0, va_rf a0), (1, .int a1)] dX2_whoAt_1 (by decide) (zf_r (zf_i zf_0)) rfl ?_
  obtain ⟨o1, h1, h2⟩ := zB_e h
  have K1 : ∀ (v2 : Int32), o1 = v2 → zG X cX2_whoAt 3 "QuiverKinModel" "whoAt" 1 20 21 [(2, .int v2)] [] g m := by
    intro v2 e
    rw [e] at h2
    have h := h2
    refine g_iload_n dX2_whoAt_21 0 rfl ?_
    refine g_iret dX2_whoAt_22 hxt ?_
    have e := Option.some.inj h
    exact Kret _ e
  refine zG.sub [1, 2, 0] rfl ?_
  refine zLoop_ok (Φ := (fun v4 : Int32 => zG X cX2_whoAt 3 "QuiverKinModel" "whoAt" 1 20 2 [(0, va_rf a0), (1, .int a1), (2, .int v4)] [] g m)) o1 ?_ zFuel _ h1
  rintro v4 x3 h hl3 hr3
  unfold b_X2_whoAt_2 at h
  have K3 : ∀ (v4 : Int32), x3 = .inr v4 → zG X cX2_whoAt 3 "QuiverKinModel" "whoAt" 1 20 2 [(0, va_rf a0), (1, .int a1), (2, .int v4)] [] g m := by
    intro v4 e
    exact hr3 _ e
  show zG X cX2_whoAt 3 "QuiverKinModel" "whoAt" 1 20 2 [(0, va_rf a0), (1, .int a1), (2, .int v4)] [] g m
  refine g_aload_n dX2_whoAt_2 0 rfl ?_
  refine gf_r zfd_2_0 q1410  (fun _ h9 => h9) dX2_whoAt_3 h (fun r5 h => ?_)
  refine g_bipush (v := (17 : Int32)) dX2_whoAt_6 (by decide) ?_
  refine g_iload_n dX2_whoAt_8 2 rfl ?_
  refine g_iadd dX2_whoAt_9 ?_
  refine g_iald dX2_whoAt_10 h (fun v6 h => ?_)
  refine g_iload_n dX2_whoAt_11 1 rfl ?_
  refine g_icmp_eq 21 dX2_whoAt_12 (by decide) (fun c => ?_) (fun c => ?_)
  · have h := zite_p h c
    refine zG.sub [2] rfl ?_
    have e := Option.some.inj h
    have e := hl3 _ e.symm
    exact K1 _ e.symm
  · have h := zite_n h c
    refine g_iinc (v := (1 : Int32)) [(0, va_rf a0), (1, .int a1)] dX2_whoAt_15 2 rfl (by decide) (by decide) (zf_r (zf_i (zf_i zf_0))) rfl h (fun v7 h => ?_)
    refine g_goto 2 dX2_whoAt_18 (by decide) ?_
    refine zG.sub [1, 2, 0] rfl ?_
    have e := Option.some.inj h
    exact K3 _ e.symm
/-! QuiverKinModel.further -/
def f_X2_further (g : zGd) (m : zMm) (a0 : Option Nat) (a1 : Int32) (a2 : Int32) : Option (Int32) :=
(zgr g m 2 0 a0).bind fun r1 =>
(zald 101 g m r1 ((17 : Int32) + a1)).bind fun v2 =>
(zgr g m 2 0 a0).bind fun r3 =>
(zald 101 g m r3 (0 : Int32)).bind fun v4 =>
(zmod (v2 + a2) v4).bind fun v5 =>
(zrc g 2 a0 (f_X2_whoAt g m a0 v5)).bind fun v6 =>
some (v6)
theorem hy_X2_further : zHy yX2_further 2 := ⟨by decide, by decide, by decide +kernel⟩
set_option maxHeartbeats 4000000 in
theorem ok_X2_further (l : Launch) (g : zGd) (m : zMm) (a0 : Option Nat) (a1 : Int32) (a2 : Int32) (z0 : Int32) (h : f_X2_further g m a0 a1 a2 = some z0) : zCT l yX2_further cX2_further 3 (some .int) 2 42 g m [va_rf a0, .int a1, .int a2] (some (.int z0)) g m := by
  refine zCT.of (own := "QuiverKinModel") (mn := "further") (by decide +kernel) rfl rfl (zla_r (zla_i (zla_i zla_0))) (zls_r (zls_i (zls_i zls_0))) (by decide) (fun X hxl hxg hxf hxt hxr hxn => ?_)
  have Kret : ∀ (y0 : Int32), y0 = z0 → zRe X g m (some (.int y0)) := by
    intro y0 e; cases e; exact ⟨hxf, hxr, hxn⟩
  subst hxl
  show zG X cX2_further 3 "QuiverKinModel" "further" 2 42 0 [(0, va_rf a0), (1, .int a1), (2, .int a2)] [] g m
  unfold f_X2_further at h
  refine g_aload_n dX2_further_0 0 rfl ?_
  refine g_aload_n dX2_further_1 0 rfl ?_
  refine gf_r zfd_2_0 q1410  (fun _ h9 => h9) dX2_further_2 h (fun r1 h => ?_)
  refine g_bipush (v := (17 : Int32)) dX2_further_5 (by decide) ?_
  refine g_iload_n dX2_further_7 1 rfl ?_
  refine g_iadd dX2_further_8 ?_
  refine g_iald dX2_further_9 h (fun v2 h => ?_)
  refine g_iload_n dX2_further_10 2 rfl ?_
  refine g_iadd dX2_further_11 ?_
  refine g_aload_n dX2_further_12 0 rfl ?_
  refine gf_r zfd_2_0 q1410  (fun _ h9 => h9) dX2_further_13 h (fun r3 h => ?_)
  refine g_iconst (v := (0 : Int32)) dX2_further_16 (by decide) ?_
  refine g_iald dX2_further_17 h (fun v4 h => ?_)
  refine g_irem dX2_further_18 h (fun v5 h => ?_)
  refine g_cVRv (rv := fun x : Int32 => Value.int x) [.int v5] (fun x0 e0 => ok_X2_whoAt (xl X) g m a0 v5 x0 e0) zc2 (by decide) (lw_V q1764 q1766 qs90 q126 q1767) rfl hy_X2_whoAt rfl ⟨by decide, by decide⟩ rfl zc_0 (by decide) dX2_further_19 h (fun v6 h => ?_)
  refine g_iret dX2_further_22 hxt ?_
  have e := Option.some.inj h
  exact Kret _ e
/-! QuiverKinModel.name -/
def f_X2_name (g : zGd) (m : zMm) (a0 : Option Nat) (a1 : Int32) : Option (zMm) :=
(zgr g m 2 20 a0).bind fun r1 =>
(zgr g m 2 0 a0).bind fun r2 =>
(zald 101 g m r2 (7 : Int32)).bind fun v3 =>
(zast 101 g m r1 (0 : Int32) v3).bind fun m4 =>
(zgr g m4 2 20 a0).bind fun r5 =>
(zast 101 g m4 r5 (1 : Int32) a1).bind fun m6 =>
(zgr g m6 2 20 a0).bind fun r7 =>
(zgr g m6 2 0 a0).bind fun r8 =>
(zald 101 g m6 r8 ((23 : Int32) + a1)).bind fun v9 =>
(zast 101 g m6 r7 (2 : Int32) v9).bind fun m10 =>
(zgr g m10 2 20 a0).bind fun r11 =>
(zgr g m10 2 0 a0).bind fun r12 =>
(zald 101 g m10 r12 ((11 : Int32) + a1)).bind fun v13 =>
(zast 101 g m10 r11 (3 : Int32) v13).bind fun m14 =>
(zgr g m14 2 20 a0).bind fun r15 =>
(zgr g m14 2 0 a0).bind fun r16 =>
(zald 101 g m14 r16 ((17 : Int32) + a1)).bind fun v17 =>
(zast 101 g m14 r15 (4 : Int32) v17).bind fun m18 =>
(zgr g m18 2 20 a0).bind fun r19 =>
(zgr g m18 2 0 a0).bind fun r20 =>
(zrc g 2 a0 (f_X2_further g m18 a0 a1 (1 : Int32))).bind fun v21 =>
(zald 101 g m18 r20 ((11 : Int32) + v21)).bind fun v22 =>
(zgr g m18 2 0 a0).bind fun r23 =>
(zgr g m18 2 0 a0).bind fun r24 =>
(zald 101 g m18 r24 (0 : Int32)).bind fun v25 =>
(zrc g 2 a0 (f_X2_further g m18 a0 a1 (v25 - (1 : Int32)))).bind fun v26 =>
(zald 101 g m18 r23 ((11 : Int32) + v26)).bind fun v27 =>
(zast 101 g m18 r19 (5 : Int32) (v22 + v27)).bind fun m28 =>
(zgr g m28 2 20 a0).bind fun r29 =>
(zgr g m28 2 0 a0).bind fun r30 =>
(zald 101 g m28 r30 (9 : Int32)).bind fun v31 =>
(zast 101 g m28 r29 (6 : Int32) v31).bind fun m32 =>
some (m32)
theorem hy_X2_name : zHy yX2_name 1 := ⟨by decide, by decide, by decide +kernel⟩
set_option maxHeartbeats 4000000 in
theorem ok_X2_name (l : Launch) (g : zGd) (m : zMm) (a0 : Option Nat) (a1 : Int32) (m0 : zMm) (h : f_X2_name g m a0 a1 = some m0) : zCT l yX2_name cX2_name 2 none 3 64 g m [va_rf a0, .int a1] none g m0 := by
  refine zCT.of (own := "QuiverKinModel") (mn := "name") (by decide +kernel) rfl rfl (zla_r (zla_i zla_0)) (zls_r (zls_i zls_0)) (by decide) (fun X hxl hxg hxf hxt hxr hxn => ?_)
  have Kret : ∀ (y0 : zMm), y0 = m0 → zRe X g y0 none := by
    intro y0 e; cases e; exact ⟨hxf, hxr, hxn⟩
  subst hxl
  show zG X cX2_name 2 "QuiverKinModel" "name" 3 64 0 [(0, va_rf a0), (1, .int a1)] [] g m
  unfold f_X2_name at h
  refine g_aload_n dX2_name_0 0 rfl ?_
  refine gf_r zfd_2_20 q1430  (fun _ h9 => h9) dX2_name_1 h (fun r1 h => ?_)
  refine g_iconst (v := (0 : Int32)) dX2_name_4 (by decide) ?_
  refine g_aload_n dX2_name_5 0 rfl ?_
  refine gf_r zfd_2_0 q1410  (fun _ h9 => h9) dX2_name_6 h (fun r2 h => ?_)
  refine g_bipush (v := (7 : Int32)) dX2_name_9 (by decide) ?_
  refine g_iald dX2_name_11 h (fun v3 h => ?_)
  refine g_iast dX2_name_12 h (fun m4 h => ?_)
  refine g_aload_n dX2_name_13 0 rfl ?_
  refine gf_r zfd_2_20 q1430  (fun _ h9 => h9) dX2_name_14 h (fun r5 h => ?_)
  refine g_iconst (v := (1 : Int32)) dX2_name_17 (by decide) ?_
  refine g_iload_n dX2_name_18 1 rfl ?_
  refine g_iast dX2_name_19 h (fun m6 h => ?_)
  refine g_aload_n dX2_name_20 0 rfl ?_
  refine gf_r zfd_2_20 q1430  (fun _ h9 => h9) dX2_name_21 h (fun r7 h => ?_)
  refine g_iconst (v := (2 : Int32)) dX2_name_24 (by decide) ?_
  refine g_aload_n dX2_name_25 0 rfl ?_
  refine gf_r zfd_2_0 q1410  (fun _ h9 => h9) dX2_name_26 h (fun r8 h => ?_)
  refine g_bipush (v := (23 : Int32)) dX2_name_29 (by decide) ?_
  refine g_iload_n dX2_name_31 1 rfl ?_
  refine g_iadd dX2_name_32 ?_
  refine g_iald dX2_name_33 h (fun v9 h => ?_)
  refine g_iast dX2_name_34 h (fun m10 h => ?_)
  refine g_aload_n dX2_name_35 0 rfl ?_
  refine gf_r zfd_2_20 q1430  (fun _ h9 => h9) dX2_name_36 h (fun r11 h => ?_)
  refine g_iconst (v := (3 : Int32)) dX2_name_39 (by decide) ?_
  refine g_aload_n dX2_name_40 0 rfl ?_
  refine gf_r zfd_2_0 q1410  (fun _ h9 => h9) dX2_name_41 h (fun r12 h => ?_)
  refine g_bipush (v := (11 : Int32)) dX2_name_44 (by decide) ?_
  refine g_iload_n dX2_name_46 1 rfl ?_
  refine g_iadd dX2_name_47 ?_
  refine g_iald dX2_name_48 h (fun v13 h => ?_)
  refine g_iast dX2_name_49 h (fun m14 h => ?_)
  refine g_aload_n dX2_name_50 0 rfl ?_
  refine gf_r zfd_2_20 q1430  (fun _ h9 => h9) dX2_name_51 h (fun r15 h => ?_)
  refine g_iconst (v := (4 : Int32)) dX2_name_54 (by decide) ?_
  refine g_aload_n dX2_name_55 0 rfl ?_
  refine gf_r zfd_2_0 q1410  (fun _ h9 => h9) dX2_name_56 h (fun r16 h => ?_)
  refine g_bipush (v := (17 : Int32)) dX2_name_59 (by decide) ?_
  refine g_iload_n dX2_name_61 1 rfl ?_
  refine g_iadd dX2_name_62 ?_
  refine g_iald dX2_name_63 h (fun v17 h => ?_)
  refine g_iast dX2_name_64 h (fun m18 h => ?_)
  refine g_aload_n dX2_name_65 0 rfl ?_
  refine gf_r zfd_2_20 q1430  (fun _ h9 => h9) dX2_name_66 h (fun r19 h => ?_)
  refine g_iconst (v := (5 : Int32)) dX2_name_69 (by decide) ?_
  refine g_aload_n dX2_name_70 0 rfl ?_
  refine gf_r zfd_2_0 q1410  (fun _ h9 => h9) dX2_name_71 h (fun r20 h => ?_)
  refine g_bipush (v := (11 : Int32)) dX2_name_74 (by decide) ?_
  refine g_aload_n dX2_name_76 0 rfl ?_
  refine g_iload_n dX2_name_77 1 rfl ?_
  refine g_iconst (v := (1 : Int32)) dX2_name_78 (by decide) ?_
  refine g_cVRv (rv := fun x : Int32 => Value.int x) [.int a1, .int (1 : Int32)] (fun x0 e0 => ok_X2_further (xl X) g m18 a0 a1 (1 : Int32) x0 e0) zc2 (by decide) (lw_V q1787 q1789 qs95 q126 q1790) rfl hy_X2_further rfl ⟨by decide, by decide⟩ rfl (zc_i (zc_r (zc_i (zc_r zc_0)))) (by decide) dX2_name_79 h (fun v21 h => ?_)
  refine g_iadd dX2_name_82 ?_
  refine g_iald dX2_name_83 h (fun v22 h => ?_)
  refine g_aload_n dX2_name_84 0 rfl ?_
  refine gf_r zfd_2_0 q1410  (fun _ h9 => h9) dX2_name_85 h (fun r23 h => ?_)
  refine g_bipush (v := (11 : Int32)) dX2_name_88 (by decide) ?_
  refine g_aload_n dX2_name_90 0 rfl ?_
  refine g_iload_n dX2_name_91 1 rfl ?_
  refine g_aload_n dX2_name_92 0 rfl ?_
  refine gf_r zfd_2_0 q1410  (fun _ h9 => h9) dX2_name_93 h (fun r24 h => ?_)
  refine g_iconst (v := (0 : Int32)) dX2_name_96 (by decide) ?_
  refine g_iald dX2_name_97 h (fun v25 h => ?_)
  refine g_iconst (v := (1 : Int32)) dX2_name_98 (by decide) ?_
  refine g_isub dX2_name_99 ?_
  refine g_cVRv (rv := fun x : Int32 => Value.int x) [.int a1, .int (v25 - (1 : Int32))] (fun x0 e0 => ok_X2_further (xl X) g m18 a0 a1 (v25 - (1 : Int32)) x0 e0) zc2 (by decide) (lw_V q1787 q1789 qs95 q126 q1790) rfl hy_X2_further rfl ⟨by decide, by decide⟩ rfl (zc_i (zc_r (zc_i (zc_i (zc_r zc_0))))) (by decide) dX2_name_100 h (fun v26 h => ?_)
  refine g_iadd dX2_name_103 ?_
  refine g_iald dX2_name_104 h (fun v27 h => ?_)
  refine g_iadd dX2_name_105 ?_
  refine g_iast dX2_name_106 h (fun m28 h => ?_)
  refine g_aload_n dX2_name_107 0 rfl ?_
  refine gf_r zfd_2_20 q1430  (fun _ h9 => h9) dX2_name_108 h (fun r29 h => ?_)
  refine g_bipush (v := (6 : Int32)) dX2_name_111 (by decide) ?_
  refine g_aload_n dX2_name_113 0 rfl ?_
  refine gf_r zfd_2_0 q1410  (fun _ h9 => h9) dX2_name_114 h (fun r30 h => ?_)
  refine g_bipush (v := (9 : Int32)) dX2_name_117 (by decide) ?_
  refine g_iald dX2_name_119 h (fun v31 h => ?_)
  refine g_iast dX2_name_120 h (fun m32 h => ?_)
  refine g_vret dX2_name_121 hxt ?_
  have e := Option.some.inj h
  exact Kret _ e
/-! QuiverKinModel.isAsked -/
def f_X2_isAsked (a0 : Int32) (a1 : Int64) (a3 : Int64) : Option (Int32) :=
if a0 = (10 : Int32) then (if a3 ≤ a1 then (some ((0 : Int32)))
else (some ((1 : Int32))))
else (if a0 = (11 : Int32) then (if a3 < a1 then (some ((0 : Int32)))
else (some ((1 : Int32))))
else (if a0 = (12 : Int32) then (if a1 ≤ a3 then (some ((0 : Int32)))
else (some ((1 : Int32))))
else (if a0 = (13 : Int32) then (if a1 < a3 then (some ((0 : Int32)))
else (some ((1 : Int32))))
else (if a0 = (14 : Int32) then (if a1 = a3 then (some ((1 : Int32)))
else (some ((0 : Int32))))
else (if a1 = a3 then (some ((0 : Int32)))
else (some ((1 : Int32))))))))
theorem hy_X2_isAsked : zHy yX2_isAsked 3 := ⟨by decide, by decide, by decide +kernel⟩
set_option maxHeartbeats 4000000 in
theorem ok_X2_isAsked (l : Launch) (g : zGd) (m : zMm) (a0 : Int32) (a1 : Int64) (a3 : Int64) (z0 : Int32) (h : f_X2_isAsked a0 a1 a3 = some z0) : zCT l yX2_isAsked cX2_isAsked 5 (some .boolean) 1 20 g m [.int a0, .long a1, .long a3] (some (.int z0)) g m := by
  refine zCT.of (own := "QuiverKinModel") (mn := "isAsked") (by decide +kernel) rfl rfl (zla_i (zla_l (zla_l zla_0))) (zls_i (zls_l (zls_l zls_0))) (by decide) (fun X hxl hxg hxf hxt hxr hxn => ?_)
  have Kret : ∀ (y0 : Int32), y0 = z0 → zRe X g m (some (.int y0)) := by
    intro y0 e; cases e; exact ⟨hxf, hxr, hxn⟩
  subst hxl
  show zG X cX2_isAsked 5 "QuiverKinModel" "isAsked" 1 20 0 [(0, .int a0), (1, .long a1), (3, .long a3)] [] g m
  unfold f_X2_isAsked at h
  refine g_iload_n dX2_isAsked_0 0 rfl ?_
  refine g_bipush (v := (10 : Int32)) dX2_isAsked_1 (by decide) ?_
  refine g_icmp_ne 20 dX2_isAsked_3 (by decide) (fun c => ?_) (fun c => ?_)
  · have h := zite_n h c
    refine g_iload_n dX2_isAsked_20 0 rfl ?_
    refine g_bipush (v := (11 : Int32)) dX2_isAsked_21 (by decide) ?_
    refine g_icmp_ne 40 dX2_isAsked_23 (by decide) (fun c => ?_) (fun c => ?_)
    · have h := zite_n h c
      refine g_iload_n dX2_isAsked_40 0 rfl ?_
      refine g_bipush (v := (12 : Int32)) dX2_isAsked_41 (by decide) ?_
      refine g_icmp_ne 60 dX2_isAsked_43 (by decide) (fun c => ?_) (fun c => ?_)
      · have h := zite_n h c
        refine g_iload_n dX2_isAsked_60 0 rfl ?_
        refine g_bipush (v := (13 : Int32)) dX2_isAsked_61 (by decide) ?_
        refine g_icmp_ne 80 dX2_isAsked_63 (by decide) (fun c => ?_) (fun c => ?_)
        · have h := zite_n h c
          refine g_iload_n dX2_isAsked_80 0 rfl ?_
          refine g_bipush (v := (14 : Int32)) dX2_isAsked_81 (by decide) ?_
          refine g_icmp_ne 100 dX2_isAsked_83 (by decide) (fun c => ?_) (fun c => ?_)
          · have h := zite_n h c
            refine g_lload_n dX2_isAsked_100 1 rfl ?_
            refine g_lload_n dX2_isAsked_101 2 rfl ?_
            refine g_lcmp_eq 110 dX2_isAsked_102 dX2_isAsked_103 (by decide) (fun c => ?_) (fun c => ?_)
            · have h := zite_p h c
              refine g_iconst (v := (0 : Int32)) dX2_isAsked_110 (by decide) ?_
              refine g_zret dX2_isAsked_111 hxt rfl ?_
              have e := Option.some.inj h
              exact Kret _ e
            · have h := zite_n h c
              refine g_iconst (v := (1 : Int32)) dX2_isAsked_106 (by decide) ?_
              refine g_goto 111 dX2_isAsked_107 (by decide) ?_
              refine g_zret dX2_isAsked_111 hxt rfl ?_
              have e := Option.some.inj h
              exact Kret _ e
          · have h := zite_p h c
            refine g_lload_n dX2_isAsked_86 1 rfl ?_
            refine g_lload_n dX2_isAsked_87 2 rfl ?_
            refine g_lcmp_ne 96 dX2_isAsked_88 dX2_isAsked_89 (by decide) (fun c => ?_) (fun c => ?_)
            · have h := zite_n h c
              refine g_iconst (v := (0 : Int32)) dX2_isAsked_96 (by decide) ?_
              refine g_goto 111 dX2_isAsked_97 (by decide) ?_
              refine g_zret dX2_isAsked_111 hxt rfl ?_
              have e := Option.some.inj h
              exact Kret _ e
            · have h := zite_p h c
              refine g_iconst (v := (1 : Int32)) dX2_isAsked_92 (by decide) ?_
              refine g_goto 111 dX2_isAsked_93 (by decide) ?_
              refine g_zret dX2_isAsked_111 hxt rfl ?_
              have e := Option.some.inj h
              exact Kret _ e
        · have h := zite_p h c
          refine g_lload_n dX2_isAsked_66 1 rfl ?_
          refine g_lload_n dX2_isAsked_67 2 rfl ?_
          refine g_lcmp_lt 76 dX2_isAsked_68 dX2_isAsked_69 (by decide) (fun c => ?_) (fun c => ?_)
          · have h := zite_p h c
            refine g_iconst (v := (0 : Int32)) dX2_isAsked_76 (by decide) ?_
            refine g_goto 111 dX2_isAsked_77 (by decide) ?_
            refine g_zret dX2_isAsked_111 hxt rfl ?_
            have e := Option.some.inj h
            exact Kret _ e
          · have h := zite_n h c
            refine g_iconst (v := (1 : Int32)) dX2_isAsked_72 (by decide) ?_
            refine g_goto 111 dX2_isAsked_73 (by decide) ?_
            refine g_zret dX2_isAsked_111 hxt rfl ?_
            have e := Option.some.inj h
            exact Kret _ e
      · have h := zite_p h c
        refine g_lload_n dX2_isAsked_46 1 rfl ?_
        refine g_lload_n dX2_isAsked_47 2 rfl ?_
        refine g_lcmp_le 56 dX2_isAsked_48 dX2_isAsked_49 (by decide) (fun c => ?_) (fun c => ?_)
        · have h := zite_p h c
          refine g_iconst (v := (0 : Int32)) dX2_isAsked_56 (by decide) ?_
          refine g_goto 111 dX2_isAsked_57 (by decide) ?_
          refine g_zret dX2_isAsked_111 hxt rfl ?_
          have e := Option.some.inj h
          exact Kret _ e
        · have h := zite_n h c
          refine g_iconst (v := (1 : Int32)) dX2_isAsked_52 (by decide) ?_
          refine g_goto 111 dX2_isAsked_53 (by decide) ?_
          refine g_zret dX2_isAsked_111 hxt rfl ?_
          have e := Option.some.inj h
          exact Kret _ e
    · have h := zite_p h c
      refine g_lload_n dX2_isAsked_26 1 rfl ?_
      refine g_lload_n dX2_isAsked_27 2 rfl ?_
      refine g_lcmp_gt 36 dX2_isAsked_28 dX2_isAsked_29 (by decide) (fun c => ?_) (fun c => ?_)
      · have h := zite_p h c
        refine g_iconst (v := (0 : Int32)) dX2_isAsked_36 (by decide) ?_
        refine g_goto 111 dX2_isAsked_37 (by decide) ?_
        refine g_zret dX2_isAsked_111 hxt rfl ?_
        have e := Option.some.inj h
        exact Kret _ e
      · have h := zite_n h c
        refine g_iconst (v := (1 : Int32)) dX2_isAsked_32 (by decide) ?_
        refine g_goto 111 dX2_isAsked_33 (by decide) ?_
        refine g_zret dX2_isAsked_111 hxt rfl ?_
        have e := Option.some.inj h
        exact Kret _ e
  · have h := zite_p h c
    refine g_lload_n dX2_isAsked_6 1 rfl ?_
    refine g_lload_n dX2_isAsked_7 2 rfl ?_
    refine g_lcmp_ge 16 dX2_isAsked_8 dX2_isAsked_9 (by decide) (fun c => ?_) (fun c => ?_)
    · have h := zite_p h c
      refine g_iconst (v := (0 : Int32)) dX2_isAsked_16 (by decide) ?_
      refine g_goto 111 dX2_isAsked_17 (by decide) ?_
      refine g_zret dX2_isAsked_111 hxt rfl ?_
      have e := Option.some.inj h
      exact Kret _ e
    · have h := zite_n h c
      refine g_iconst (v := (1 : Int32)) dX2_isAsked_12 (by decide) ?_
      refine g_goto 111 dX2_isAsked_13 (by decide) ?_
      refine g_zret dX2_isAsked_111 hxt rfl ?_
      have e := Option.some.inj h
      exact Kret _ e
/-! QuiverKinModel.joined -/
def f_X2_joined (a0 : Int32) (a1 : Int32) (a2 : Int32) : Option (Int32) :=
if a0 = (21 : Int32) then (if a1 = 0 then (some ((0 : Int32)))
else (if a2 = 0 then (some ((0 : Int32)))
else (some ((1 : Int32)))))
else (if a1 = 0 then (if a2 = 0 then (some ((0 : Int32)))
else (some ((1 : Int32))))
else (some ((1 : Int32))))
theorem hy_X2_joined : zHy yX2_joined 3 := ⟨by decide, by decide, by decide +kernel⟩
set_option maxHeartbeats 4000000 in
theorem ok_X2_joined (l : Launch) (g : zGd) (m : zMm) (a0 : Int32) (a1 : Int32) (a2 : Int32) (z0 : Int32) (h : f_X2_joined a0 a1 a2 = some z0) : zCT l yX2_joined cX2_joined 3 (some .boolean) 1 20 g m [.int a0, .int a1, .int a2] (some (.int z0)) g m := by
  refine zCT.of (own := "QuiverKinModel") (mn := "joined") (by decide +kernel) rfl rfl (zla_i (zla_i (zla_i zla_0))) (zls_i (zls_i (zls_i zls_0))) (by decide) (fun X hxl hxg hxf hxt hxr hxn => ?_)
  have Kret : ∀ (y0 : Int32), y0 = z0 → zRe X g m (some (.int y0)) := by
    intro y0 e; cases e; exact ⟨hxf, hxr, hxn⟩
  subst hxl
  show zG X cX2_joined 3 "QuiverKinModel" "joined" 1 20 0 [(0, .int a0), (1, .int a1), (2, .int a2)] [] g m
  unfold f_X2_joined at h
  refine g_iload_n dX2_joined_0 0 rfl ?_
  refine g_bipush (v := (21 : Int32)) dX2_joined_1 (by decide) ?_
  refine g_icmp_ne 22 dX2_joined_3 (by decide) (fun c => ?_) (fun c => ?_)
  · have h := zite_n h c
    refine g_iload_n dX2_joined_22 1 rfl ?_
    refine g_if_ne 30 dX2_joined_23 (by decide) (fun c => ?_) (fun c => ?_)
    · have h := zite_n h c
      refine g_iconst (v := (1 : Int32)) dX2_joined_30 (by decide) ?_
      refine g_goto 35 dX2_joined_31 (by decide) ?_
      refine g_zret dX2_joined_35 hxt rfl ?_
      have e := Option.some.inj h
      exact Kret _ e
    · have h := zite_p h c
      refine g_iload_n dX2_joined_26 2 rfl ?_
      refine g_if_eq 34 dX2_joined_27 (by decide) (fun c => ?_) (fun c => ?_)
      · have h := zite_p h c
        refine g_iconst (v := (0 : Int32)) dX2_joined_34 (by decide) ?_
        refine g_zret dX2_joined_35 hxt rfl ?_
        have e := Option.some.inj h
        exact Kret _ e
      · have h := zite_n h c
        refine g_iconst (v := (1 : Int32)) dX2_joined_30 (by decide) ?_
        refine g_goto 35 dX2_joined_31 (by decide) ?_
        refine g_zret dX2_joined_35 hxt rfl ?_
        have e := Option.some.inj h
        exact Kret _ e
  · have h := zite_p h c
    refine g_iload_n dX2_joined_6 1 rfl ?_
    refine g_if_eq 18 dX2_joined_7 (by decide) (fun c => ?_) (fun c => ?_)
    · have h := zite_p h c
      refine g_iconst (v := (0 : Int32)) dX2_joined_18 (by decide) ?_
      refine g_goto 35 dX2_joined_19 (by decide) ?_
      refine g_zret dX2_joined_35 hxt rfl ?_
      have e := Option.some.inj h
      exact Kret _ e
    · have h := zite_n h c
      refine g_iload_n dX2_joined_10 2 rfl ?_
      refine g_if_eq 18 dX2_joined_11 (by decide) (fun c => ?_) (fun c => ?_)
      · have h := zite_p h c
        refine g_iconst (v := (0 : Int32)) dX2_joined_18 (by decide) ?_
        refine g_goto 35 dX2_joined_19 (by decide) ?_
        refine g_zret dX2_joined_35 hxt rfl ?_
        have e := Option.some.inj h
        exact Kret _ e
      · have h := zite_n h c
        refine g_iconst (v := (1 : Int32)) dX2_joined_14 (by decide) ?_
        refine g_goto 35 dX2_joined_15 (by decide) ?_
        refine g_zret dX2_joined_35 hxt rfl ?_
        have e := Option.some.inj h
        exact Kret _ e
/-! QuiverKinModel.acrossOf -/
def f_X2_acrossOf (g : zGd) (m : zMm) (a0 : Option Nat) (a1 : Int32) : Option (Int32) :=
(zgr g m 2 0 a0).bind fun r1 =>
(zald 101 g m r1 (0 : Int32)).bind fun v2 =>
(zrc g 2 a0 (f_X2_further g m a0 a1 (v2 / (2 : Int32)))).bind fun v3 =>
some (v3)
theorem hy_X2_acrossOf : zHy yX2_acrossOf 1 := ⟨by decide, by decide, by decide +kernel⟩
set_option maxHeartbeats 4000000 in
theorem ok_X2_acrossOf (l : Launch) (g : zGd) (m : zMm) (a0 : Option Nat) (a1 : Int32) (z0 : Int32) (h : f_X2_acrossOf g m a0 a1 = some z0) : zCT l yX2_acrossOf cX2_acrossOf 2 (some .int) 3 64 g m [va_rf a0, .int a1] (some (.int z0)) g m := by
  refine zCT.of (own := "QuiverKinModel") (mn := "acrossOf") (by decide +kernel) rfl rfl (zla_r (zla_i zla_0)) (zls_r (zls_i zls_0)) (by decide) (fun X hxl hxg hxf hxt hxr hxn => ?_)
  have Kret : ∀ (y0 : Int32), y0 = z0 → zRe X g m (some (.int y0)) := by
    intro y0 e; cases e; exact ⟨hxf, hxr, hxn⟩
  subst hxl
  show zG X cX2_acrossOf 2 "QuiverKinModel" "acrossOf" 3 64 0 [(0, va_rf a0), (1, .int a1)] [] g m
  unfold f_X2_acrossOf at h
  refine g_aload_n dX2_acrossOf_0 0 rfl ?_
  refine g_iload_n dX2_acrossOf_1 1 rfl ?_
  refine g_aload_n dX2_acrossOf_2 0 rfl ?_
  refine gf_r zfd_2_0 q1410  (fun _ h9 => h9) dX2_acrossOf_3 h (fun r1 h => ?_)
  refine g_iconst (v := (0 : Int32)) dX2_acrossOf_6 (by decide) ?_
  refine g_iald dX2_acrossOf_7 h (fun v2 h => ?_)
  refine g_iconst (v := (2 : Int32)) dX2_acrossOf_8 (by decide) ?_
  refine g_idivC dX2_acrossOf_9 (by decide) ?_
  refine g_cVRv (rv := fun x : Int32 => Value.int x) [.int a1, .int (v2 / (2 : Int32))] (fun x0 e0 => ok_X2_further (xl X) g m a0 a1 (v2 / (2 : Int32)) x0 e0) zc2 (by decide) (lw_V q1787 q1789 qs95 q126 q1790) rfl hy_X2_further rfl ⟨by decide, by decide⟩ rfl zc_0 (by decide) dX2_acrossOf_10 h (fun v3 h => ?_)
  refine g_iret dX2_acrossOf_13 hxt ?_
  have e := Option.some.inj h
  exact Kret _ e
/-! QuiverKinModel.ofOne -/
def f_X2_ofOne (g : zGd) (m : zMm) (a0 : Option Nat) (a1 : Int32) (a2 : Int64) : Option (Int64) :=
if a1 = (5 : Int32) then (some ((-a2)))
else (if a2 < (0 : Int64) then (some ((0 : Int64)))
else ((zgr g m 2 0 a0).bind fun r1 =>
(zald 101 g m r1 (0 : Int32)).bind fun v2 =>
if a2 < (v2.toInt64) then (if a1 = (2 : Int32) then ((zrc g 2 a0 (f_X2_acrossOf g m a0 (a2.toInt32))).bind fun v5 =>
some ((v5.toInt64)))
else ((zgr g m 2 0 a0).bind fun r3 =>
(zald 101 g m r3 ((11 : Int32) + (a2.toInt32))).bind fun v4 =>
some ((v4.toInt64))))
else (some ((0 : Int64)))))
theorem hy_X2_ofOne : zHy yX2_ofOne 2 := ⟨by decide, by decide, by decide +kernel⟩
set_option maxHeartbeats 4000000 in
theorem ok_X2_ofOne (l : Launch) (g : zGd) (m : zMm) (a0 : Option Nat) (a1 : Int32) (a2 : Int64) (z0 : Int64) (h : f_X2_ofOne g m a0 a1 a2 = some z0) : zCT l yX2_ofOne cX2_ofOne 4 (some .long) 4 85 g m [va_rf a0, .int a1, .long a2] (some (.long z0)) g m := by
  refine zCT.of (own := "QuiverKinModel") (mn := "ofOne") (by decide +kernel) rfl rfl (zla_r (zla_i (zla_l zla_0))) (zls_r (zls_i (zls_l zls_0))) (by decide) (fun X hxl hxg hxf hxt hxr hxn => ?_)
  have Kret : ∀ (y0 : Int64), y0 = z0 → zRe X g m (some (.long y0)) := by
    intro y0 e; cases e; exact ⟨hxf, hxr, hxn⟩
  subst hxl
  show zG X cX2_ofOne 4 "QuiverKinModel" "ofOne" 4 85 0 [(0, va_rf a0), (1, .int a1), (2, .long a2)] [] g m
  unfold f_X2_ofOne at h
  refine g_iload_n dX2_ofOne_0 1 rfl ?_
  refine g_iconst (v := (5 : Int32)) dX2_ofOne_1 (by decide) ?_
  refine g_icmp_ne 8 dX2_ofOne_2 (by decide) (fun c => ?_) (fun c => ?_)
  · have h := zite_n h c
    refine g_lload_n dX2_ofOne_8 2 rfl ?_
    refine g_lconst (v := (0 : Int64)) dX2_ofOne_9 (by decide) ?_
    refine g_lcmp_lt 26 dX2_ofOne_10 dX2_ofOne_11 (by decide) (fun c => ?_) (fun c => ?_)
    · have h := zite_p h c
      refine g_lconst (v := (0 : Int64)) dX2_ofOne_26 (by decide) ?_
      refine g_lret dX2_ofOne_27 hxt ?_
      have e := Option.some.inj h
      exact Kret _ e
    · have h := zite_n h c
      refine g_lload_n dX2_ofOne_14 2 rfl ?_
      refine g_aload_n dX2_ofOne_15 0 rfl ?_
      refine gf_r zfd_2_0 q1410  (fun _ h9 => h9) dX2_ofOne_16 h (fun r1 h => ?_)
      refine g_iconst (v := (0 : Int32)) dX2_ofOne_19 (by decide) ?_
      refine g_iald dX2_ofOne_20 h (fun v2 h => ?_)
      refine g_i2l dX2_ofOne_21 ?_
      refine g_lcmp_lt 28 dX2_ofOne_22 dX2_ofOne_23 (by decide) (fun c => ?_) (fun c => ?_)
      · have h := zite_p h c
        refine g_iload_n dX2_ofOne_28 1 rfl ?_
        refine g_iconst (v := (2 : Int32)) dX2_ofOne_29 (by decide) ?_
        refine g_icmp_ne 43 dX2_ofOne_30 (by decide) (fun c => ?_) (fun c => ?_)
        · have h := zite_n h c
          refine g_aload_n dX2_ofOne_43 0 rfl ?_
          refine gf_r zfd_2_0 q1410  (fun _ h9 => h9) dX2_ofOne_44 h (fun r3 h => ?_)
          refine g_bipush (v := (11 : Int32)) dX2_ofOne_47 (by decide) ?_
          refine g_lload_n dX2_ofOne_49 2 rfl ?_
          refine g_l2i dX2_ofOne_50 ?_
          refine g_iadd dX2_ofOne_51 ?_
          refine g_iald dX2_ofOne_52 h (fun v4 h => ?_)
          refine g_i2l dX2_ofOne_53 ?_
          refine g_lret dX2_ofOne_54 hxt ?_
          have e := Option.some.inj h
          exact Kret _ e
        · have h := zite_p h c
          refine g_aload_n dX2_ofOne_33 0 rfl ?_
          refine g_lload_n dX2_ofOne_34 2 rfl ?_
          refine g_l2i dX2_ofOne_35 ?_
          refine g_cVRv (rv := fun x : Int32 => Value.int x) [.int (a2.toInt32)] (fun x0 e0 => ok_X2_acrossOf (xl X) g m a0 (a2.toInt32) x0 e0) zc2 (by decide) (lw_V q1803 q1805 qs99 q126 q1806) rfl hy_X2_acrossOf rfl ⟨by decide, by decide⟩ rfl zc_0 (by decide) dX2_ofOne_36 h (fun v5 h => ?_)
          refine g_i2l dX2_ofOne_39 ?_
          refine g_goto 54 dX2_ofOne_40 (by decide) ?_
          refine g_lret dX2_ofOne_54 hxt ?_
          have e := Option.some.inj h
          exact Kret _ e
      · have h := zite_n h c
        refine g_lconst (v := (0 : Int64)) dX2_ofOne_26 (by decide) ?_
        refine g_lret dX2_ofOne_27 hxt ?_
        have e := Option.some.inj h
        exact Kret _ e
  · have h := zite_p h c
    refine g_lload_n dX2_ofOne_5 2 rfl ?_
    refine g_lneg dX2_ofOne_6 ?_
    refine g_lret dX2_ofOne_7 hxt ?_
    have e := Option.some.inj h
    exact Kret _ e
/-! QuiverKinModel.clip -/
def f_X2_clip (a0 : Int64) : Option (Int64) :=
if a0 ≤ (1000000 : Int64) then (if (-1000000 : Int64) ≤ a0 then (some (a0))
else (some ((-1000000 : Int64))))
else (some ((1000000 : Int64)))
theorem hy_X2_clip : zHy yX2_clip 1 := ⟨by decide, by decide, by decide +kernel⟩
set_option maxHeartbeats 4000000 in
theorem ok_X2_clip (l : Launch) (g : zGd) (m : zMm) (a0 : Int64) (z0 : Int64) (h : f_X2_clip a0 = some z0) : zCT l yX2_clip cX2_clip 2 (some .long) 1 20 g m [.long a0] (some (.long z0)) g m := by
  refine zCT.of (own := "QuiverKinModel") (mn := "clip") (by decide +kernel) rfl rfl (zla_l zla_0) (zls_l zls_0) (by decide) (fun X hxl hxg hxf hxt hxr hxn => ?_)
  have Kret : ∀ (y0 : Int64), y0 = z0 → zRe X g m (some (.long y0)) := by
    intro y0 e; cases e; exact ⟨hxf, hxr, hxn⟩
  subst hxl
  show zG X cX2_clip 2 "QuiverKinModel" "clip" 1 20 0 [(0, .long a0)] [] g m
  unfold f_X2_clip at h
  refine g_lload_n dX2_clip_0 0 rfl ?_
  refine g_ldc2 (v := (1000000 : Int64)) q1813 dX2_clip_1 ?_
  refine g_lcmp_le 14 dX2_clip_4 dX2_clip_5 (by decide) (fun c => ?_) (fun c => ?_)
  · have h := zite_p h c
    refine g_lload_n dX2_clip_14 0 rfl ?_
    refine g_ldc2 (v := (-1000000 : Int64)) q1814 dX2_clip_15 ?_
    refine g_lcmp_ge 28 dX2_clip_18 dX2_clip_19 (by decide) (fun c => ?_) (fun c => ?_)
    · have h := zite_p h c
      refine g_lload_n dX2_clip_28 0 rfl ?_
      refine g_lret dX2_clip_29 hxt ?_
      have e := Option.some.inj h
      exact Kret _ e
    · have h := zite_n h c
      refine g_ldc2 (v := (-1000000 : Int64)) q1814 dX2_clip_22 ?_
      refine g_goto 29 dX2_clip_25 (by decide) ?_
      refine g_lret dX2_clip_29 hxt ?_
      have e := Option.some.inj h
      exact Kret _ e
  · have h := zite_n h c
    refine g_ldc2 (v := (1000000 : Int64)) q1813 dX2_clip_8 ?_
    refine g_goto 29 dX2_clip_11 (by decide) ?_
    refine g_lret dX2_clip_29 hxt ?_
    have e := Option.some.inj h
    exact Kret _ e
/-! QuiverKinModel.two -/
def f_X2_two (a0 : Int32) (a1 : Int64) (a3 : Int64) : Option (Int64) :=
if a0 = (6 : Int32) then ((f_X2_clip (a1 + a3)).bind fun w1 =>
some (w1))
else if a0 = (7 : Int32) then ((f_X2_clip (a1 - a3)).bind fun w2 =>
some (w2))
else if a0 = (8 : Int32) then ((f_X2_clip (a1 * a3)).bind fun w3 =>
some (w3))
else (if a3 = (0 : Int64) then (some ((0 : Int64)))
else ((zldiv a1 a3).bind fun w4 =>
(f_X2_clip w4).bind fun w5 =>
some (w5)))
theorem hy_X2_two : zHy yX2_two 3 := ⟨by decide, by decide, by decide +kernel⟩
set_option maxHeartbeats 4000000 in
theorem ok_X2_two (l : Launch) (g : zGd) (m : zMm) (a0 : Int32) (a1 : Int64) (a3 : Int64) (z0 : Int64) (h : f_X2_two a0 a1 a3 = some z0) : zCT l yX2_two cX2_two 5 (some .long) 2 41 g m [.int a0, .long a1, .long a3] (some (.long z0)) g m := by
  refine zCT.of (own := "QuiverKinModel") (mn := "two") (by decide +kernel) rfl rfl (zla_i (zla_l (zla_l zla_0))) (zls_i (zls_l (zls_l zls_0))) (by decide) (fun X hxl hxg hxf hxt hxr hxn => ?_)
  have Kret : ∀ (y0 : Int64), y0 = z0 → zRe X g m (some (.long y0)) := by
    intro y0 e; cases e; exact ⟨hxf, hxr, hxn⟩
  subst hxl
  show zG X cX2_two 5 "QuiverKinModel" "two" 2 41 0 [(0, .int a0), (1, .long a1), (3, .long a3)] [] g m
  unfold f_X2_two at h
  refine g_iload_n dX2_two_0 0 rfl ?_
  rcases Decidable.em (a0 = (6 : Int32)) with c | c6
  · have h := zite_p h c
    refine g_tsw (v := (6 : Int32)) (off := 27) 28 dX2_two_1 c (by decide) (by decide) (by decide) (by decide) ?_
    refine g_lload_n dX2_two_28 1 rfl ?_
    refine g_lload_n dX2_two_29 2 rfl ?_
    refine g_ladd dX2_two_30 ?_
    refine g_cSRv (rv := fun x : Int64 => Value.long x) [.long (a1 + a3)] (fun x0 e0 => ok_X2_clip (xl X) g m (a1 + a3) x0 e0) (lw_S q1810 q1811 q126 q1812) hy_X2_clip rfl ⟨by decide, by decide⟩ rfl zc_0 (by decide) dX2_two_31 h (fun w1 h => ?_)
    refine g_lret dX2_two_34 hxt ?_
    have e := Option.some.inj h
    exact Kret _ e
  have h := zite_n h c6
  rcases Decidable.em (a0 = (7 : Int32)) with c | c7
  · have h := zite_p h c
    refine g_tsw (v := (7 : Int32)) (off := 34) 35 dX2_two_1 c (by decide) (by decide) (by decide) (by decide) ?_
    refine g_lload_n dX2_two_35 1 rfl ?_
    refine g_lload_n dX2_two_36 2 rfl ?_
    refine g_lsub dX2_two_37 ?_
    refine g_cSRv (rv := fun x : Int64 => Value.long x) [.long (a1 - a3)] (fun x0 e0 => ok_X2_clip (xl X) g m (a1 - a3) x0 e0) (lw_S q1810 q1811 q126 q1812) hy_X2_clip rfl ⟨by decide, by decide⟩ rfl zc_0 (by decide) dX2_two_38 h (fun w2 h => ?_)
    refine g_lret dX2_two_41 hxt ?_
    have e := Option.some.inj h
    exact Kret _ e
  have h := zite_n h c7
  rcases Decidable.em (a0 = (8 : Int32)) with c | c8
  · have h := zite_p h c
    refine g_tsw (v := (8 : Int32)) (off := 41) 42 dX2_two_1 c (by decide) (by decide) (by decide) (by decide) ?_
    refine g_lload_n dX2_two_42 1 rfl ?_
    refine g_lload_n dX2_two_43 2 rfl ?_
    refine g_lmul dX2_two_44 ?_
    refine g_cSRv (rv := fun x : Int64 => Value.long x) [.long (a1 * a3)] (fun x0 e0 => ok_X2_clip (xl X) g m (a1 * a3) x0 e0) (lw_S q1810 q1811 q126 q1812) hy_X2_clip rfl ⟨by decide, by decide⟩ rfl zc_0 (by decide) dX2_two_45 h (fun w3 h => ?_)
    refine g_lret dX2_two_48 hxt ?_
    have e := Option.some.inj h
    exact Kret _ e
  have h := zite_n h c8
  refine g_tswG (n := 3) (vs := [(6 : Int32), (7 : Int32), (8 : Int32)]) 49 dX2_two_1 (List.forall_mem_cons.mpr ⟨c6, List.forall_mem_cons.mpr ⟨c7, List.forall_mem_cons.mpr ⟨c8, fun _ h9 => absurd h9 List.not_mem_nil⟩⟩⟩) (by decide) (by decide) (by decide) ?_
  refine g_lload_n dX2_two_49 2 rfl ?_
  refine g_lconst (v := (0 : Int64)) dX2_two_50 (by decide) ?_
  refine g_lcmp_ne 59 dX2_two_51 dX2_two_52 (by decide) (fun c => ?_) (fun c => ?_)
  · have h := zite_n h c
    refine g_lload_n dX2_two_59 1 rfl ?_
    refine g_lload_n dX2_two_60 2 rfl ?_
    refine g_ldiv dX2_two_61 h (fun w4 h => ?_)
    refine g_cSRv (rv := fun x : Int64 => Value.long x) [.long w4] (fun x0 e0 => ok_X2_clip (xl X) g m w4 x0 e0) (lw_S q1810 q1811 q126 q1812) hy_X2_clip rfl ⟨by decide, by decide⟩ rfl zc_0 (by decide) dX2_two_62 h (fun w5 h => ?_)
    refine g_lret dX2_two_65 hxt ?_
    have e := Option.some.inj h
    exact Kret _ e
  · have h := zite_p h c
    refine g_lconst (v := (0 : Int64)) dX2_two_55 (by decide) ?_
    refine g_goto 65 dX2_two_56 (by decide) ?_
    refine g_lret dX2_two_65 hxt ?_
    have e := Option.some.inj h
    exact Kret _ e
/-! QuiverKinModel.summedUp -/
def b_X2_summedUp_38 (g : zGd) (a0 : Option Nat) (v1 : Int32) (v2 : Int32) : Int32 × Int32 × Int32 × zMm → Option ((zMm) ⊕ (Int32 × Int32 × Int32 × zMm)) := fun (v8, v9, v10, m11) =>
(zgr g m11 2 2 a0).bind fun r12 =>
(zald 101 g m11 r12 (v1 + (2 : Int32))).bind fun v13 =>
if v13 ≤ v10 then (some (.inl m11))
else ((zgr g m11 2 2 a0).bind fun r14 =>
(zald 101 g m11 r14 (v2 + ((2 : Int32) * v10))).bind fun v15 =>
(zgr g m11 2 2 a0).bind fun r16 =>
(zald 101 g m11 r16 ((v2 + ((2 : Int32) * v10)) + (1 : Int32))).bind fun v17 =>
if (1 : Int32) < v15 then (if v15 = (3 : Int32) then (zlt (v8 + (-1 : Int32)) fun v59 =>
zlt (v9 + (-1 : Int32)) fun v60 =>
(zgr g m11 2 22 a0).bind fun r61 =>
(zald 103 g m11 r61 v60).bind fun v62 =>
if v62 = 0 then ((zgr g m11 2 21 a0).bind fun r64 =>
(zgr g m11 2 21 a0).bind fun r65 =>
(zaldj g m11 r65 v59).bind fun w66 =>
(zastj g m11 r64 (v59 - (1 : Int32)) w66).bind fun m67 =>
zlt (v10 + (1 : Int32)) fun v68 =>
some (.inr (v59, v60, v68, m67)))
else (zlt (v10 + (1 : Int32)) fun v63 =>
some (.inr (v59, v60, v63, m11))))
else (if (5 : Int32) < v15 then (if (10 : Int32) ≤ v15 then (if (20 : Int32) ≤ v15 then (if v15 = (20 : Int32) then ((zgr g m11 2 22 a0).bind fun r27 =>
(zgr g m11 2 22 a0).bind fun r28 =>
(zald 103 g m11 r28 (v9 - (1 : Int32))).bind fun v29 =>
if v29 = 0 then ((zast 103 g m11 r27 (v9 - (1 : Int32)) (vp_nar .boolean (1 : Int32))).bind fun m32 =>
zlt (v10 + (1 : Int32)) fun v33 =>
some (.inr (v8, v9, v33, m32)))
else ((zast 103 g m11 r27 (v9 - (1 : Int32)) (vp_nar .boolean (0 : Int32))).bind fun m30 =>
zlt (v10 + (1 : Int32)) fun v31 =>
some (.inr (v8, v9, v31, m30))))
else (zlt (v9 + (-1 : Int32)) fun v18 =>
(zgr g m11 2 22 a0).bind fun r19 =>
(zgr g m11 2 22 a0).bind fun r20 =>
(zald 103 g m11 r20 (v18 - (1 : Int32))).bind fun v21 =>
(zgr g m11 2 22 a0).bind fun r22 =>
(zald 103 g m11 r22 v18).bind fun v23 =>
(f_X2_joined v15 v21 v23).bind fun v24 =>
(zast 103 g m11 r19 (v18 - (1 : Int32)) (vp_nar .boolean v24)).bind fun m25 =>
zlt (v10 + (1 : Int32)) fun v26 =>
some (.inr (v8, v18, v26, m25))))
else (zlt (v8 + (-2 : Int32)) fun v34 =>
(zgr g m11 2 22 a0).bind fun r35 =>
(zgr g m11 2 21 a0).bind fun r36 =>
(zaldj g m11 r36 v34).bind fun w37 =>
(zgr g m11 2 21 a0).bind fun r38 =>
(zaldj g m11 r38 (v34 + (1 : Int32))).bind fun w39 =>
(f_X2_isAsked v15 w37 w39).bind fun v40 =>
(zast 103 g m11 r35 v9 (vp_nar .boolean v40)).bind fun m41 =>
zlt (v9 + (1 : Int32)) fun v42 =>
zlt (v10 + (1 : Int32)) fun v43 =>
some (.inr (v34, v42, v43, m41))))
else (zlt (v8 + (-1 : Int32)) fun v44 =>
(zgr g m11 2 21 a0).bind fun r45 =>
(zgr g m11 2 21 a0).bind fun r46 =>
(zaldj g m11 r46 (v44 - (1 : Int32))).bind fun w47 =>
(zgr g m11 2 21 a0).bind fun r48 =>
(zaldj g m11 r48 v44).bind fun w49 =>
(f_X2_two v15 w47 w49).bind fun w50 =>
(zastj g m11 r45 (v44 - (1 : Int32)) w50).bind fun m51 =>
zlt (v10 + (1 : Int32)) fun v52 =>
some (.inr (v44, v9, v52, m51))))
else ((zgr g m11 2 21 a0).bind fun r53 =>
(zgr g m11 2 21 a0).bind fun r54 =>
(zaldj g m11 r54 (v8 - (1 : Int32))).bind fun w55 =>
(zrc g 2 a0 (f_X2_ofOne g m11 a0 v15 w55)).bind fun w56 =>
(zastj g m11 r53 (v8 - (1 : Int32)) w56).bind fun m57 =>
zlt (v10 + (1 : Int32)) fun v58 =>
some (.inr (v8, v9, v58, m57)))))
else ((zgr g m11 2 21 a0).bind fun r69 =>
if v15 = 0 then ((zastj g m11 r69 v8 (v17.toInt64)).bind fun m75 =>
zlt (v8 + (1 : Int32)) fun v76 =>
zlt (v10 + (1 : Int32)) fun v77 =>
some (.inr (v76, v9, v77, m75)))
else ((zgr g m11 2 20 a0).bind fun r70 =>
(zald 101 g m11 r70 v17).bind fun v71 =>
(zastj g m11 r69 v8 (v71.toInt64)).bind fun m72 =>
zlt (v8 + (1 : Int32)) fun v73 =>
zlt (v10 + (1 : Int32)) fun v74 =>
some (.inr (v73, v9, v74, m72)))))
def f_X2_summedUp (g : zGd) (m : zMm) (a0 : Option Nat) (a1 : Int32) (a2 : Int32) : Option (Int64 × zMm) :=
zlt ((((681 : Int32) * a1) + (1 : Int32)) + ((3 : Int32) * a2)) fun v1 =>
zlt (((681 : Int32) * a1) + (73 : Int32)) fun v2 =>
(zgr g m 2 2 a0).bind fun r3 =>
(zald 101 g m r3 (v1 + (1 : Int32))).bind fun v4 =>
(zLoop (b_X2_summedUp_38 g a0 v1 v2) zFuel ((0 : Int32), (0 : Int32), v4, m)).bind fun m6 =>
(zgr g m6 2 21 a0).bind fun r78 =>
(zaldj g m6 r78 (0 : Int32)).bind fun w79 =>
some ((w79, m6))
theorem hy_X2_summedUp : zHy yX2_summedUp 2 := ⟨by decide, by decide, by decide +kernel⟩
set_option maxHeartbeats 4000000 in
theorem ok_X2_summedUp (l : Launch) (g : zGd) (m : zMm) (a0 : Option Nat) (a1 : Int32) (a2 : Int32) (z0 : Int64) (m0 : zMm) (h : f_X2_summedUp g m a0 a1 a2 = some (z0, m0)) : zCT l yX2_summedUp cX2_summedUp 10 (some .long) 5 108 g m [va_rf a0, .int a1, .int a2] (some (.long z0)) g m0 := by
  refine zCT.of (own := "QuiverKinModel") (mn := "summedUp") (by decide +kernel) rfl rfl (zla_r (zla_i (zla_i zla_0))) (zls_r (zls_i (zls_i zls_0))) (by decide) (fun X hxl hxg hxf hxt hxr hxn => ?_)
  have Kret : ∀ (y0 : Int64) (y1 : zMm), (y0, y1) = (z0, m0) → zRe X g y1 (some (.long y0)) := by
    intro y0 y1 e; cases e; exact ⟨hxf, hxr, hxn⟩
  subst hxl
  show zG X cX2_summedUp 10 "QuiverKinModel" "summedUp" 5 108 0 [(0, va_rf a0), (1, .int a1), (2, .int a2)] [] g m
  unfold f_X2_summedUp at h
  refine g_sipush (v := (681 : Int32)) dX2_summedUp_0 (by decide) ?_
  refine g_iload_n dX2_summedUp_3 1 rfl ?_
  refine g_imul dX2_summedUp_4 ?_
  refine g_iconst (v := (1 : Int32)) dX2_summedUp_5 (by decide) ?_
  refine g_iadd dX2_summedUp_6 ?_
  refine g_iconst (v := (3 : Int32)) dX2_summedUp_7 (by decide) ?_
  refine g_iload_n dX2_summedUp_8 2 rfl ?_
  refine g_imul dX2_summedUp_9 ?_
  refine g_iadd dX2_summedUp_10 ?_
  refine g_leti h (fun v1 h => ?_)
  refine g_istore_n [(3, .int v1), (0, va_rf a0), (1, .int a1), (2, .int a2)] dX2_summedUp_11 (by decide) (zf_r (zf_i (zf_i zf_0))) rfl ?_
  refine g_sipush (v := (681 : Int32)) dX2_summedUp_12 (by decide) ?_
  refine g_iload_n dX2_summedUp_15 2 rfl ?_
  refine g_imul dX2_summedUp_16 ?_
  refine g_bipush (v := (73 : Int32)) dX2_summedUp_17 (by decide) ?_
  refine g_iadd dX2_summedUp_19 ?_
  refine g_leti h (fun v2 h => ?_)
  refine g_istore [(4, .int v2), (3, .int v1), (0, va_rf a0), (1, .int a1), (2, .int a2)] dX2_summedUp_20 (by decide) (zf_i (zf_r (zf_i (zf_i zf_0)))) rfl ?_
  refine g_iconst (v := (0 : Int32)) dX2_summedUp_22 (by decide) ?_
  refine g_istore [(5, .int (0 : Int32)), (4, .int v2), (3, .int v1), (0, va_rf a0), (1, .int a1), (2, .int a2)] dX2_summedUp_23 (by decide) (zf_i (zf_i (zf_r (zf_i (zf_i zf_0))))) rfl ?_
  refine g_iconst (v := (0 : Int32)) dX2_summedUp_25 (by decide) ?_
  refine g_istore [(6, .int (0 : Int32)), (5, .int (0 : Int32)), (4, .int v2), (3, .int v1), (0, va_rf a0), (1, .int a1), (2, .int a2)] dX2_summedUp_26 (by decide) (zf_i (zf_i (zf_i (zf_r (zf_i (zf_i zf_0)))))) rfl ?_
  refine g_aload_n dX2_summedUp_28 4 rfl ?_
  refine gf_r zfd_2_2 q1412  (fun _ h9 => h9) dX2_summedUp_29 h (fun r3 h => ?_)
  refine g_iload_n dX2_summedUp_32 3 rfl ?_
  refine g_iconst (v := (1 : Int32)) dX2_summedUp_33 (by decide) ?_
  refine g_iadd dX2_summedUp_34 ?_
  refine g_iald dX2_summedUp_35 h (fun v4 h => ?_)
  refine g_istore [(7, .int v4), (6, .int (0 : Int32)), (5, .int (0 : Int32)), (4, .int v2), (3, .int v1), (0, va_rf a0), (1, .int a1), (2, .int a2)] dX2_summedUp_36 (by decide) (zf_i (zf_i (zf_i (zf_i (zf_r (zf_i (zf_i zf_0))))))) rfl ?_
  obtain ⟨o5, h1, h2⟩ := zB_e h
  have K5 : ∀ (m6 : zMm), o5 = m6 → zG X cX2_summedUp 10 "QuiverKinModel" "summedUp" 5 108 355 [(0, va_rf a0)] [] g m6 := by
    intro m6 e
    rw [e] at h2
    have h := h2
    refine g_aload_n dX2_summedUp_355 0 rfl ?_
    refine gf_r zfd_2_21 q1431  (fun _ h9 => h9) dX2_summedUp_356 h (fun r78 h => ?_)
    refine g_iconst (v := (0 : Int32)) dX2_summedUp_359 (by decide) ?_
    refine g_lald dX2_summedUp_360 h (fun w79 h => ?_)
    refine g_lret dX2_summedUp_361 hxt ?_
    have e := Option.some.inj h
    exact Kret _ _ e
  refine zG.sub [5, 4, 3, 2, 1, 0] rfl ?_
  refine zLoop_ok (Φ := (fun (q : Int32 × Int32 × Int32 × zMm) => match q with | (v8, v9, v10, m11) => zG X cX2_summedUp 10 "QuiverKinModel" "summedUp" 5 108 38 [(0, va_rf a0), (3, .int v1), (4, .int v2), (5, .int v8), (6, .int v9), (7, .int v10)] [] g m11)) o5 ?_ zFuel _ h1
  rintro ⟨v8, v9, v10, m11⟩ x7 h hl7 hr7
  unfold b_X2_summedUp_38 at h
  have K7 : ∀ (v8 : Int32) (v9 : Int32) (v10 : Int32) (m11 : zMm), x7 = .inr (v8, v9, v10, m11) → zG X cX2_summedUp 10 "QuiverKinModel" "summedUp" 5 108 38 [(0, va_rf a0), (3, .int v1), (4, .int v2), (5, .int v8), (6, .int v9), (7, .int v10)] [] g m11 := by
    intro v8 v9 v10 m11 e
    exact hr7 _ e
  show zG X cX2_summedUp 10 "QuiverKinModel" "summedUp" 5 108 38 [(0, va_rf a0), (3, .int v1), (4, .int v2), (5, .int v8), (6, .int v9), (7, .int v10)] [] g m11
  refine g_iload dX2_summedUp_38 5 rfl ?_
  refine g_aload_n dX2_summedUp_40 0 rfl ?_
  refine gf_r zfd_2_2 q1412  (fun _ h9 => h9) dX2_summedUp_41 h (fun r12 h => ?_)
  refine g_iload_n dX2_summedUp_44 1 rfl ?_
  refine g_iconst (v := (2 : Int32)) dX2_summedUp_45 (by decide) ?_
  refine g_iadd dX2_summedUp_46 ?_
  refine g_iald dX2_summedUp_47 h (fun v13 h => ?_)
  refine g_icmp_ge 355 dX2_summedUp_48 (by decide) (fun c => ?_) (fun c => ?_)
  · have h := zite_p h c
    refine zG.sub [0] rfl ?_
    have e := Option.some.inj h
    have e := hl7 _ e.symm
    exact K5 _ e.symm
  · have h := zite_n h c
    refine g_aload_n dX2_summedUp_51 0 rfl ?_
    refine gf_r zfd_2_2 q1412  (fun _ h9 => h9) dX2_summedUp_52 h (fun r14 h => ?_)
    refine g_iload dX2_summedUp_55 2 rfl ?_
    refine g_iconst (v := (2 : Int32)) dX2_summedUp_57 (by decide) ?_
    refine g_iload dX2_summedUp_58 5 rfl ?_
    refine g_imul dX2_summedUp_60 ?_
    refine g_iadd dX2_summedUp_61 ?_
    refine g_iald dX2_summedUp_62 h (fun v15 h => ?_)
    refine g_istore [(8, .int v15), (0, va_rf a0), (3, .int v1), (4, .int v2), (5, .int v8), (6, .int v9), (7, .int v10)] dX2_summedUp_63 (by decide) (zf_r (zf_i (zf_i (zf_i (zf_i (zf_i zf_0)))))) rfl ?_
    refine g_aload_n dX2_summedUp_65 1 rfl ?_
    refine gf_r zfd_2_2 q1412  (fun _ h9 => h9) dX2_summedUp_66 h (fun r16 h => ?_)
    refine g_iload dX2_summedUp_69 3 rfl ?_
    refine g_iconst (v := (2 : Int32)) dX2_summedUp_71 (by decide) ?_
    refine g_iload dX2_summedUp_72 6 rfl ?_
    refine g_imul dX2_summedUp_74 ?_
    refine g_iadd dX2_summedUp_75 ?_
    refine g_iconst (v := (1 : Int32)) dX2_summedUp_76 (by decide) ?_
    refine g_iadd dX2_summedUp_77 ?_
    refine g_iald dX2_summedUp_78 h (fun v17 h => ?_)
    refine g_istore [(9, .int v17), (8, .int v15), (0, va_rf a0), (3, .int v1), (4, .int v2), (5, .int v8), (6, .int v9), (7, .int v10)] dX2_summedUp_79 (by decide) (zf_i (zf_r (zf_i (zf_i (zf_i (zf_i (zf_i zf_0))))))) rfl ?_
    refine g_iload dX2_summedUp_81 1 rfl ?_
    refine g_iconst (v := (1 : Int32)) dX2_summedUp_83 (by decide) ?_
    refine g_icmp_gt 119 dX2_summedUp_84 (by decide) (fun c => ?_) (fun c => ?_)
    · have h := zite_p h c
      refine g_iload dX2_summedUp_119 1 rfl ?_
      refine g_iconst (v := (3 : Int32)) dX2_summedUp_121 (by decide) ?_
      refine g_icmp_ne 160 dX2_summedUp_122 (by decide) (fun c => ?_) (fun c => ?_)
      · have h := zite_n h c
        refine g_iload dX2_summedUp_160 1 rfl ?_
        refine g_iconst (v := (5 : Int32)) dX2_summedUp_162 (by decide) ?_
        refine g_icmp_gt 193 dX2_summedUp_163 (by decide) (fun c => ?_) (fun c => ?_)
        · have h := zite_p h c
          refine g_iload dX2_summedUp_193 1 rfl ?_
          refine g_bipush (v := (10 : Int32)) dX2_summedUp_195 (by decide) ?_
          refine g_icmp_ge 236 dX2_summedUp_197 (by decide) (fun c => ?_) (fun c => ?_)
          · have h := zite_p h c
            refine g_iload dX2_summedUp_236 1 rfl ?_
            refine g_bipush (v := (20 : Int32)) dX2_summedUp_238 (by decide) ?_
            refine g_icmp_ge 280 dX2_summedUp_240 (by decide) (fun c => ?_) (fun c => ?_)
            · have h := zite_p h c
              refine g_iload dX2_summedUp_280 1 rfl ?_
              refine g_bipush (v := (20 : Int32)) dX2_summedUp_282 (by decide) ?_
              refine g_icmp_ne 316 dX2_summedUp_284 (by decide) (fun c => ?_) (fun c => ?_)
              · have h := zite_n h c
                refine g_iinc (v := (-1 : Int32)) [(9, .int v17), (8, .int v15), (0, va_rf a0), (3, .int v1), (4, .int v2), (5, .int v8), (7, .int v10)] dX2_summedUp_316 6 rfl (by decide) (by decide) (zf_i (zf_i (zf_r (zf_i (zf_i (zf_i (zf_i (zf_i zf_0)))))))) rfl h (fun v18 h => ?_)
                refine g_aload_n dX2_summedUp_319 3 rfl ?_
                refine gf_r zfd_2_22 q1432  (fun _ h9 => h9) dX2_summedUp_320 h (fun r19 h => ?_)
                refine g_iload dX2_summedUp_323 0 rfl ?_
                refine g_iconst (v := (1 : Int32)) dX2_summedUp_325 (by decide) ?_
                refine g_isub dX2_summedUp_326 ?_
                refine g_iload dX2_summedUp_327 2 rfl ?_
                refine g_aload_n dX2_summedUp_329 3 rfl ?_
                refine gf_r zfd_2_22 q1432  (fun _ h9 => h9) dX2_summedUp_330 h (fun r20 h => ?_)
                refine g_iload dX2_summedUp_333 0 rfl ?_
                refine g_iconst (v := (1 : Int32)) dX2_summedUp_335 (by decide) ?_
                refine g_isub dX2_summedUp_336 ?_
                refine g_zald dX2_summedUp_337 h (fun v21 h => ?_)
                refine g_aload_n dX2_summedUp_338 3 rfl ?_
                refine gf_r zfd_2_22 q1432  (fun _ h9 => h9) dX2_summedUp_339 h (fun r22 h => ?_)
                refine g_iload dX2_summedUp_342 0 rfl ?_
                refine g_zald dX2_summedUp_344 h (fun v23 h => ?_)
                refine g_cSRv (rv := fun x : Int32 => Value.int x) [.int v15, .int v21, .int v23] (fun x0 e0 => ok_X2_joined (xl X) g m11 v15 v21 v23 x0 e0) (lw_S q1818 q1819 q126 q1820) hy_X2_joined rfl ⟨by decide, by decide⟩ rfl (zc_i (zc_r zc_0)) (by decide) dX2_summedUp_345 h (fun v24 h => ?_)
                refine g_zast dX2_summedUp_348 h (fun m25 h => ?_)
                refine g_iinc (v := (1 : Int32)) [(6, .int v18), (9, .int v17), (8, .int v15), (0, va_rf a0), (3, .int v1), (4, .int v2), (5, .int v8)] dX2_summedUp_349 7 rfl (by decide) (by decide) (zf_i (zf_i (zf_i (zf_r (zf_i (zf_i (zf_i (zf_i zf_0)))))))) rfl h (fun v26 h => ?_)
                refine g_goto 38 dX2_summedUp_352 (by decide) ?_
                refine zG.sub [4, 5, 6, 7, 1, 0] rfl ?_
                have e := Option.some.inj h
                exact K7 _ _ _ _ e.symm
              · have h := zite_p h c
                refine g_aload_n dX2_summedUp_287 2 rfl ?_
                refine gf_r zfd_2_22 q1432  (fun _ h9 => h9) dX2_summedUp_288 h (fun r27 h => ?_)
                refine g_iload dX2_summedUp_291 6 rfl ?_
                refine g_iconst (v := (1 : Int32)) dX2_summedUp_293 (by decide) ?_
                refine g_isub dX2_summedUp_294 ?_
                refine g_aload_n dX2_summedUp_295 2 rfl ?_
                refine gf_r zfd_2_22 q1432  (fun _ h9 => h9) dX2_summedUp_296 h (fun r28 h => ?_)
                refine g_iload dX2_summedUp_299 6 rfl ?_
                refine g_iconst (v := (1 : Int32)) dX2_summedUp_301 (by decide) ?_
                refine g_isub dX2_summedUp_302 ?_
                refine g_zald dX2_summedUp_303 h (fun v29 h => ?_)
                refine g_if_ne 311 dX2_summedUp_304 (by decide) (fun c => ?_) (fun c => ?_)
                · have h := zite_n h c
                  refine g_iconst (v := (0 : Int32)) dX2_summedUp_311 (by decide) ?_
                  refine g_zast dX2_summedUp_312 h (fun m30 h => ?_)
                  refine g_goto 349 dX2_summedUp_313 (by decide) ?_
                  refine g_iinc (v := (1 : Int32)) [(9, .int v17), (8, .int v15), (0, va_rf a0), (3, .int v1), (4, .int v2), (5, .int v8), (6, .int v9)] dX2_summedUp_349 7 rfl (by decide) (by decide) (zf_i (zf_i (zf_r (zf_i (zf_i (zf_i (zf_i (zf_i zf_0)))))))) rfl h (fun v31 h => ?_)
                  refine g_goto 38 dX2_summedUp_352 (by decide) ?_
                  refine zG.sub [3, 4, 5, 6, 7, 0] rfl ?_
                  have e := Option.some.inj h
                  exact K7 _ _ _ _ e.symm
                · have h := zite_p h c
                  refine g_iconst (v := (1 : Int32)) dX2_summedUp_307 (by decide) ?_
                  refine g_goto 312 dX2_summedUp_308 (by decide) ?_
                  refine g_zast dX2_summedUp_312 h (fun m32 h => ?_)
                  refine g_goto 349 dX2_summedUp_313 (by decide) ?_
                  refine g_iinc (v := (1 : Int32)) [(9, .int v17), (8, .int v15), (0, va_rf a0), (3, .int v1), (4, .int v2), (5, .int v8), (6, .int v9)] dX2_summedUp_349 7 rfl (by decide) (by decide) (zf_i (zf_i (zf_r (zf_i (zf_i (zf_i (zf_i (zf_i zf_0)))))))) rfl h (fun v33 h => ?_)
                  refine g_goto 38 dX2_summedUp_352 (by decide) ?_
                  refine zG.sub [3, 4, 5, 6, 7, 0] rfl ?_
                  have e := Option.some.inj h
                  exact K7 _ _ _ _ e.symm
            · have h := zite_n h c
              refine g_iinc (v := (-2 : Int32)) [(9, .int v17), (8, .int v15), (0, va_rf a0), (3, .int v1), (4, .int v2), (6, .int v9), (7, .int v10)] dX2_summedUp_243 5 rfl (by decide) (by decide) (zf_i (zf_i (zf_r (zf_i (zf_i (zf_i (zf_i (zf_i zf_0)))))))) rfl h (fun v34 h => ?_)
              refine g_aload_n dX2_summedUp_246 3 rfl ?_
              refine gf_r zfd_2_22 q1432  (fun _ h9 => h9) dX2_summedUp_247 h (fun r35 h => ?_)
              refine g_iload dX2_summedUp_250 6 rfl ?_
              refine g_iload dX2_summedUp_252 2 rfl ?_
              refine g_aload_n dX2_summedUp_254 3 rfl ?_
              refine gf_r zfd_2_21 q1431  (fun _ h9 => h9) dX2_summedUp_255 h (fun r36 h => ?_)
              refine g_iload dX2_summedUp_258 0 rfl ?_
              refine g_lald dX2_summedUp_260 h (fun w37 h => ?_)
              refine g_aload_n dX2_summedUp_261 3 rfl ?_
              refine gf_r zfd_2_21 q1431  (fun _ h9 => h9) dX2_summedUp_262 h (fun r38 h => ?_)
              refine g_iload dX2_summedUp_265 0 rfl ?_
              refine g_iconst (v := (1 : Int32)) dX2_summedUp_267 (by decide) ?_
              refine g_iadd dX2_summedUp_268 ?_
              refine g_lald dX2_summedUp_269 h (fun w39 h => ?_)
              refine g_cSRv (rv := fun x : Int32 => Value.int x) [.int v15, .long w37, .long w39] (fun x0 e0 => ok_X2_isAsked (xl X) g m11 v15 w37 w39 x0 e0) (lw_S q1815 q1816 q126 q1817) hy_X2_isAsked rfl ⟨by decide, by decide⟩ rfl (zc_i (zc_r zc_0)) (by decide) dX2_summedUp_270 h (fun v40 h => ?_)
              refine g_zast dX2_summedUp_273 h (fun m41 h => ?_)
              refine g_iinc (v := (1 : Int32)) [(5, .int v34), (9, .int v17), (8, .int v15), (0, va_rf a0), (3, .int v1), (4, .int v2), (7, .int v10)] dX2_summedUp_274 6 rfl (by decide) (by decide) (zf_i (zf_i (zf_i (zf_r (zf_i (zf_i (zf_i (zf_i zf_0)))))))) rfl h (fun v42 h => ?_)
              refine g_goto 349 dX2_summedUp_277 (by decide) ?_
              refine g_iinc (v := (1 : Int32)) [(6, .int v42), (5, .int v34), (9, .int v17), (8, .int v15), (0, va_rf a0), (3, .int v1), (4, .int v2)] dX2_summedUp_349 7 rfl (by decide) (by decide) (zf_i (zf_i (zf_i (zf_i (zf_r (zf_i (zf_i (zf_i zf_0)))))))) rfl h (fun v43 h => ?_)
              refine g_goto 38 dX2_summedUp_352 (by decide) ?_
              refine zG.sub [5, 6, 7, 2, 1, 0] rfl ?_
              have e := Option.some.inj h
              exact K7 _ _ _ _ e.symm
          · have h := zite_n h c
            refine g_iinc (v := (-1 : Int32)) [(9, .int v17), (8, .int v15), (0, va_rf a0), (3, .int v1), (4, .int v2), (6, .int v9), (7, .int v10)] dX2_summedUp_200 5 rfl (by decide) (by decide) (zf_i (zf_i (zf_r (zf_i (zf_i (zf_i (zf_i (zf_i zf_0)))))))) rfl h (fun v44 h => ?_)
            refine g_aload_n dX2_summedUp_203 3 rfl ?_
            refine gf_r zfd_2_21 q1431  (fun _ h9 => h9) dX2_summedUp_204 h (fun r45 h => ?_)
            refine g_iload dX2_summedUp_207 0 rfl ?_
            refine g_iconst (v := (1 : Int32)) dX2_summedUp_209 (by decide) ?_
            refine g_isub dX2_summedUp_210 ?_
            refine g_iload dX2_summedUp_211 2 rfl ?_
            refine g_aload_n dX2_summedUp_213 3 rfl ?_
            refine gf_r zfd_2_21 q1431  (fun _ h9 => h9) dX2_summedUp_214 h (fun r46 h => ?_)
            refine g_iload dX2_summedUp_217 0 rfl ?_
            refine g_iconst (v := (1 : Int32)) dX2_summedUp_219 (by decide) ?_
            refine g_isub dX2_summedUp_220 ?_
            refine g_lald dX2_summedUp_221 h (fun w47 h => ?_)
            refine g_aload_n dX2_summedUp_222 3 rfl ?_
            refine gf_r zfd_2_21 q1431  (fun _ h9 => h9) dX2_summedUp_223 h (fun r48 h => ?_)
            refine g_iload dX2_summedUp_226 0 rfl ?_
            refine g_lald dX2_summedUp_228 h (fun w49 h => ?_)
            refine g_cSRv (rv := fun x : Int64 => Value.long x) [.int v15, .long w47, .long w49] (fun x0 e0 => ok_X2_two (xl X) g m11 v15 w47 w49 x0 e0) (lw_S q1807 q1808 q126 q1809) hy_X2_two rfl ⟨by decide, by decide⟩ rfl (zc_i (zc_r zc_0)) (by decide) dX2_summedUp_229 h (fun w50 h => ?_)
            refine g_last dX2_summedUp_232 h (fun m51 h => ?_)
            refine g_goto 349 dX2_summedUp_233 (by decide) ?_
            refine g_iinc (v := (1 : Int32)) [(5, .int v44), (9, .int v17), (8, .int v15), (0, va_rf a0), (3, .int v1), (4, .int v2), (6, .int v9)] dX2_summedUp_349 7 rfl (by decide) (by decide) (zf_i (zf_i (zf_i (zf_r (zf_i (zf_i (zf_i (zf_i zf_0)))))))) rfl h (fun v52 h => ?_)
            refine g_goto 38 dX2_summedUp_352 (by decide) ?_
            refine zG.sub [4, 5, 6, 1, 7, 0] rfl ?_
            have e := Option.some.inj h
            exact K7 _ _ _ _ e.symm
        · have h := zite_n h c
          refine g_aload_n dX2_summedUp_166 2 rfl ?_
          refine gf_r zfd_2_21 q1431  (fun _ h9 => h9) dX2_summedUp_167 h (fun r53 h => ?_)
          refine g_iload dX2_summedUp_170 5 rfl ?_
          refine g_iconst (v := (1 : Int32)) dX2_summedUp_172 (by decide) ?_
          refine g_isub dX2_summedUp_173 ?_
          refine g_aload_n dX2_summedUp_174 2 rfl ?_
          refine g_iload dX2_summedUp_175 1 rfl ?_
          refine g_aload_n dX2_summedUp_177 2 rfl ?_
          refine gf_r zfd_2_21 q1431  (fun _ h9 => h9) dX2_summedUp_178 h (fun r54 h => ?_)
          refine g_iload dX2_summedUp_181 5 rfl ?_
          refine g_iconst (v := (1 : Int32)) dX2_summedUp_183 (by decide) ?_
          refine g_isub dX2_summedUp_184 ?_
          refine g_lald dX2_summedUp_185 h (fun w55 h => ?_)
          refine g_cVRv (rv := fun x : Int64 => Value.long x) [.int v15, .long w55] (fun x0 e0 => ok_X2_ofOne (xl X) g m11 a0 v15 w55 x0 e0) zc2 (by decide) (lw_V q1799 q1801 qs98 q126 q1802) rfl hy_X2_ofOne rfl ⟨by decide, by decide⟩ rfl (zc_i (zc_r zc_0)) (by decide) dX2_summedUp_186 h (fun w56 h => ?_)
          refine g_last dX2_summedUp_189 h (fun m57 h => ?_)
          refine g_goto 349 dX2_summedUp_190 (by decide) ?_
          refine g_iinc (v := (1 : Int32)) [(9, .int v17), (8, .int v15), (0, va_rf a0), (3, .int v1), (4, .int v2), (5, .int v8), (6, .int v9)] dX2_summedUp_349 7 rfl (by decide) (by decide) (zf_i (zf_i (zf_r (zf_i (zf_i (zf_i (zf_i (zf_i zf_0)))))))) rfl h (fun v58 h => ?_)
          refine g_goto 38 dX2_summedUp_352 (by decide) ?_
          refine zG.sub [3, 4, 5, 6, 7, 0] rfl ?_
          have e := Option.some.inj h
          exact K7 _ _ _ _ e.symm
      · have h := zite_p h c
        refine g_iinc (v := (-1 : Int32)) [(9, .int v17), (8, .int v15), (0, va_rf a0), (3, .int v1), (4, .int v2), (6, .int v9), (7, .int v10)] dX2_summedUp_125 5 rfl (by decide) (by decide) (zf_i (zf_i (zf_r (zf_i (zf_i (zf_i (zf_i (zf_i zf_0)))))))) rfl h (fun v59 h => ?_)
        refine g_iinc (v := (-1 : Int32)) [(5, .int v59), (9, .int v17), (8, .int v15), (0, va_rf a0), (3, .int v1), (4, .int v2), (7, .int v10)] dX2_summedUp_128 6 rfl (by decide) (by decide) (zf_i (zf_i (zf_i (zf_r (zf_i (zf_i (zf_i (zf_i zf_0)))))))) rfl h (fun v60 h => ?_)
        refine g_aload_n dX2_summedUp_131 4 rfl ?_
        refine gf_r zfd_2_22 q1432  (fun _ h9 => h9) dX2_summedUp_132 h (fun r61 h => ?_)
        refine g_iload dX2_summedUp_135 0 rfl ?_
        refine g_zald dX2_summedUp_137 h (fun v62 h => ?_)
        refine g_if_ne 349 dX2_summedUp_138 (by decide) (fun c => ?_) (fun c => ?_)
        · have h := zite_n h c
          refine g_iinc (v := (1 : Int32)) [(6, .int v60), (5, .int v59), (9, .int v17), (8, .int v15), (0, va_rf a0), (3, .int v1), (4, .int v2)] dX2_summedUp_349 7 rfl (by decide) (by decide) (zf_i (zf_i (zf_i (zf_i (zf_r (zf_i (zf_i (zf_i zf_0)))))))) rfl h (fun v63 h => ?_)
          refine g_goto 38 dX2_summedUp_352 (by decide) ?_
          refine zG.sub [5, 6, 7, 2, 1, 0] rfl ?_
          have e := Option.some.inj h
          exact K7 _ _ _ _ e.symm
        · have h := zite_p h c
          refine g_aload_n dX2_summedUp_141 4 rfl ?_
          refine gf_r zfd_2_21 q1431  (fun _ h9 => h9) dX2_summedUp_142 h (fun r64 h => ?_)
          refine g_iload dX2_summedUp_145 1 rfl ?_
          refine g_iconst (v := (1 : Int32)) dX2_summedUp_147 (by decide) ?_
          refine g_isub dX2_summedUp_148 ?_
          refine g_aload_n dX2_summedUp_149 4 rfl ?_
          refine gf_r zfd_2_21 q1431  (fun _ h9 => h9) dX2_summedUp_150 h (fun r65 h => ?_)
          refine g_iload dX2_summedUp_153 1 rfl ?_
          refine g_lald dX2_summedUp_155 h (fun w66 h => ?_)
          refine g_last dX2_summedUp_156 h (fun m67 h => ?_)
          refine g_goto 349 dX2_summedUp_157 (by decide) ?_
          refine g_iinc (v := (1 : Int32)) [(6, .int v60), (5, .int v59), (9, .int v17), (8, .int v15), (0, va_rf a0), (3, .int v1), (4, .int v2)] dX2_summedUp_349 7 rfl (by decide) (by decide) (zf_i (zf_i (zf_i (zf_i (zf_r (zf_i (zf_i (zf_i zf_0)))))))) rfl h (fun v68 h => ?_)
          refine g_goto 38 dX2_summedUp_352 (by decide) ?_
          refine zG.sub [5, 6, 7, 2, 1, 0] rfl ?_
          have e := Option.some.inj h
          exact K7 _ _ _ _ e.symm
    · have h := zite_n h c
      refine g_aload_n dX2_summedUp_87 2 rfl ?_
      refine gf_r zfd_2_21 q1431  (fun _ h9 => h9) dX2_summedUp_88 h (fun r69 h => ?_)
      refine g_iload dX2_summedUp_91 5 rfl ?_
      refine g_iload dX2_summedUp_93 1 rfl ?_
      refine g_if_ne 104 dX2_summedUp_95 (by decide) (fun c => ?_) (fun c => ?_)
      · have h := zite_n h c
        refine g_aload_n dX2_summedUp_104 2 rfl ?_
        refine gf_r zfd_2_20 q1430  (fun _ h9 => h9) dX2_summedUp_105 h (fun r70 h => ?_)
        refine g_iload dX2_summedUp_108 0 rfl ?_
        refine g_iald dX2_summedUp_110 h (fun v71 h => ?_)
        refine g_i2l dX2_summedUp_111 ?_
        refine g_last dX2_summedUp_112 h (fun m72 h => ?_)
        refine g_iinc (v := (1 : Int32)) [(9, .int v17), (8, .int v15), (0, va_rf a0), (3, .int v1), (4, .int v2), (6, .int v9), (7, .int v10)] dX2_summedUp_113 5 rfl (by decide) (by decide) (zf_i (zf_i (zf_r (zf_i (zf_i (zf_i (zf_i (zf_i zf_0)))))))) rfl h (fun v73 h => ?_)
        refine g_goto 349 dX2_summedUp_116 (by decide) ?_
        refine g_iinc (v := (1 : Int32)) [(5, .int v73), (9, .int v17), (8, .int v15), (0, va_rf a0), (3, .int v1), (4, .int v2), (6, .int v9)] dX2_summedUp_349 7 rfl (by decide) (by decide) (zf_i (zf_i (zf_i (zf_r (zf_i (zf_i (zf_i (zf_i zf_0)))))))) rfl h (fun v74 h => ?_)
        refine g_goto 38 dX2_summedUp_352 (by decide) ?_
        refine zG.sub [4, 5, 6, 1, 7, 0] rfl ?_
        have e := Option.some.inj h
        exact K7 _ _ _ _ e.symm
      · have h := zite_p h c
        refine g_iload dX2_summedUp_98 0 rfl ?_
        refine g_i2l dX2_summedUp_100 ?_
        refine g_goto 112 dX2_summedUp_101 (by decide) ?_
        refine g_last dX2_summedUp_112 h (fun m75 h => ?_)
        refine g_iinc (v := (1 : Int32)) [(9, .int v17), (8, .int v15), (0, va_rf a0), (3, .int v1), (4, .int v2), (6, .int v9), (7, .int v10)] dX2_summedUp_113 5 rfl (by decide) (by decide) (zf_i (zf_i (zf_r (zf_i (zf_i (zf_i (zf_i (zf_i zf_0)))))))) rfl h (fun v76 h => ?_)
        refine g_goto 349 dX2_summedUp_116 (by decide) ?_
        refine g_iinc (v := (1 : Int32)) [(5, .int v76), (9, .int v17), (8, .int v15), (0, va_rf a0), (3, .int v1), (4, .int v2), (6, .int v9)] dX2_summedUp_349 7 rfl (by decide) (by decide) (zf_i (zf_i (zf_i (zf_r (zf_i (zf_i (zf_i (zf_i zf_0)))))))) rfl h (fun v77 h => ?_)
        refine g_goto 38 dX2_summedUp_352 (by decide) ?_
        refine zG.sub [4, 5, 6, 1, 7, 0] rfl ?_
        have e := Option.some.inj h
        exact K7 _ _ _ _ e.symm
/-! QuiverKinModel.says -/
def b_X2_says_3 (g : zGd) (m : zMm) (a0 : Option Nat) (a1 : Int32) (a2 : Int32) (a4 : Int32) : Int32 → Option ((((Int32 × zMm) ⊕ (Unit))) ⊕ (Int32)) := fun v3 =>
if a1 < 0 then (some (.inl (.inr ())))
else ((zgr g m 2 2 a0).bind fun r4 =>
(zald 101 g m r4 ((681 : Int32) * a1)).bind fun v5 =>
if v5 ≤ v3 then (some (.inl (.inr ())))
else ((zgr g m 2 2 a0).bind fun r6 =>
(zald 101 g m r6 ((((681 : Int32) * a1) + (1 : Int32)) + ((3 : Int32) * v3))).bind fun v7 =>
if v7 = a2 then ((zrc g 2 a0 (f_X2_summedUp g m a0 a1 v3)).bind fun (w9, m10) =>
(f_X2_held w9 (0 : Int32) a4).bind fun v11 =>
some (.inl (.inl ((v11, m10)))))
else (zlt (v3 + (1 : Int32)) fun v8 =>
some (.inr v8))))
def f_X2_says (g : zGd) (m : zMm) (a0 : Option Nat) (a1 : Int32) (a2 : Int32) (a3 : Int32) (a4 : Int32) : Option (Int32 × zMm) :=
zEx (σ := Unit) (zLoop (b_X2_says_3 g m a0 a1 a2 a4) zFuel (0 : Int32)) fun _ =>
some ((a3, m))
theorem hy_X2_says : zHy yX2_says 4 := ⟨by decide, by decide, by decide +kernel⟩
set_option maxHeartbeats 4000000 in
theorem ok_X2_says (l : Launch) (g : zGd) (m : zMm) (a0 : Option Nat) (a1 : Int32) (a2 : Int32) (a3 : Int32) (a4 : Int32) (z0 : Int32) (m0 : zMm) (h : f_X2_says g m a0 a1 a2 a3 a4 = some (z0, m0)) : zCT l yX2_says cX2_says 6 (some .int) 6 137 g m [va_rf a0, .int a1, .int a2, .int a3, .int a4] (some (.int z0)) g m0 := by
  refine zCT.of (own := "QuiverKinModel") (mn := "says") (by decide +kernel) rfl rfl (zla_r (zla_i (zla_i (zla_i (zla_i zla_0))))) (zls_r (zls_i (zls_i (zls_i (zls_i zls_0))))) (by decide) (fun X hxl hxg hxf hxt hxr hxn => ?_)
  have Kret : ∀ (y0 : Int32) (y1 : zMm), (y0, y1) = (z0, m0) → zRe X g y1 (some (.int y0)) := by
    intro y0 y1 e; cases e; exact ⟨hxf, hxr, hxn⟩
  subst hxl
  show zG X cX2_says 6 "QuiverKinModel" "says" 6 137 0 [(0, va_rf a0), (1, .int a1), (2, .int a2), (3, .int a3), (4, .int a4)] [] g m
  unfold f_X2_says at h
  refine g_iconst (v := (0 : Int32)) dX2_says_0 (by decide) ?_
  refine g_istore [(5, .int (0 : Int32)), (0, va_rf a0), (1, .int a1), (2, .int a2), (3, .int a3), (4, .int a4)] dX2_says_1 (by decide) (zf_r (zf_i (zf_i (zf_i (zf_i zf_0))))) rfl ?_
  obtain ⟨o1, h1, hl1, hr1⟩ := zEx_e h
  have K1 : o1 = .inr () → zG X cX2_says 6 "QuiverKinModel" "says" 6 137 63 [(3, .int a3)] [] g m := by
    intro e
    have h := hr1 _ e
    refine g_iload_n dX2_says_63 0 rfl ?_
    refine g_iret dX2_says_64 hxt ?_
    have e := Option.some.inj h
    exact Kret _ _ e
  refine zG.sub [1, 2, 3, 4, 5, 0] rfl ?_
  refine zLoop_ok (Φ := (fun v3 : Int32 => zG X cX2_says 6 "QuiverKinModel" "says" 6 137 3 [(0, va_rf a0), (1, .int a1), (2, .int a2), (3, .int a3), (4, .int a4), (5, .int v3)] [] g m)) o1 ?_ zFuel _ h1
  rintro v3 x2 h hl2 hr2
  unfold b_X2_says_3 at h
  have K2 : ∀ (v3 : Int32), x2 = .inr v3 → zG X cX2_says 6 "QuiverKinModel" "says" 6 137 3 [(0, va_rf a0), (1, .int a1), (2, .int a2), (3, .int a3), (4, .int a4), (5, .int v3)] [] g m := by
    intro v3 e
    exact hr2 _ e
  show zG X cX2_says 6 "QuiverKinModel" "says" 6 137 3 [(0, va_rf a0), (1, .int a1), (2, .int a2), (3, .int a3), (4, .int a4), (5, .int v3)] [] g m
  refine g_iload_n dX2_says_3 1 rfl ?_
  refine g_if_lt 63 dX2_says_4 (by decide) (fun c => ?_) (fun c => ?_)
  · have h := zite_p h c
    refine zG.sub [3] rfl ?_
    have e := Option.some.inj h
    have e := hl2 _ e.symm
    exact K1 e.symm
  · have h := zite_n h c
    refine g_iload dX2_says_7 5 rfl ?_
    refine g_aload_n dX2_says_9 0 rfl ?_
    refine gf_r zfd_2_2 q1412  (fun _ h9 => h9) dX2_says_10 h (fun r4 h => ?_)
    refine g_sipush (v := (681 : Int32)) dX2_says_13 (by decide) ?_
    refine g_iload_n dX2_says_16 1 rfl ?_
    refine g_imul dX2_says_17 ?_
    refine g_iald dX2_says_18 h (fun v5 h => ?_)
    refine g_icmp_ge 63 dX2_says_19 (by decide) (fun c => ?_) (fun c => ?_)
    · have h := zite_p h c
      refine zG.sub [3] rfl ?_
      have e := Option.some.inj h
      have e := hl2 _ e.symm
      exact K1 e.symm
    · have h := zite_n h c
      refine g_aload_n dX2_says_22 0 rfl ?_
      refine gf_r zfd_2_2 q1412  (fun _ h9 => h9) dX2_says_23 h (fun r6 h => ?_)
      refine g_sipush (v := (681 : Int32)) dX2_says_26 (by decide) ?_
      refine g_iload_n dX2_says_29 1 rfl ?_
      refine g_imul dX2_says_30 ?_
      refine g_iconst (v := (1 : Int32)) dX2_says_31 (by decide) ?_
      refine g_iadd dX2_says_32 ?_
      refine g_iconst (v := (3 : Int32)) dX2_says_33 (by decide) ?_
      refine g_iload dX2_says_34 5 rfl ?_
      refine g_imul dX2_says_36 ?_
      refine g_iadd dX2_says_37 ?_
      refine g_iald dX2_says_38 h (fun v7 h => ?_)
      refine g_iload_n dX2_says_39 2 rfl ?_
      refine g_icmp_ne 57 dX2_says_40 (by decide) (fun c => ?_) (fun c => ?_)
      · have h := zite_n h c
        refine g_iinc (v := (1 : Int32)) [(0, va_rf a0), (1, .int a1), (2, .int a2), (3, .int a3), (4, .int a4)] dX2_says_57 5 rfl (by decide) (by decide) (zf_r (zf_i (zf_i (zf_i (zf_i (zf_i zf_0)))))) rfl h (fun v8 h => ?_)
        refine g_goto 3 dX2_says_60 (by decide) ?_
        refine zG.sub [1, 2, 3, 4, 5, 0] rfl ?_
        have e := Option.some.inj h
        exact K2 _ e.symm
      · have h := zite_p h c
        refine g_aload_n dX2_says_43 0 rfl ?_
        refine g_iload_n dX2_says_44 1 rfl ?_
        refine g_iload dX2_says_45 5 rfl ?_
        refine g_cVMv (rv := fun x : Int64 => Value.long x) [.int a1, .int v3] (fun x0 m0 e0 => ok_X2_summedUp (xl X) g m a0 a1 v3 x0 m0 e0) zc2 (by decide) (lw_V q1795 q1797 qs97 q126 q1798) rfl hy_X2_summedUp rfl ⟨by decide, by decide⟩ rfl zc_0 (by decide) dX2_says_47 h (fun w9 m10 h => ?_)
        refine g_iconst (v := (0 : Int32)) dX2_says_50 (by decide) ?_
        refine g_iload dX2_says_51 4 rfl ?_
        refine g_cSRv (rv := fun x : Int32 => Value.int x) [.long w9, .int (0 : Int32), .int a4] (fun x0 e0 => ok_X2_held (xl X) g m10 w9 (0 : Int32) a4 x0 e0) (lw_S q1729 q1730 q126 q1731) hy_X2_held rfl ⟨by decide, by decide⟩ rfl zc_0 (by decide) dX2_says_53 h (fun v11 h => ?_)
        refine g_iret dX2_says_56 hxt ?_
        have e := Option.some.inj h
        have e := hl2 _ e.symm
        have e := hl1 _ e.symm
        exact Kret _ _ e
/-! QuiverKinModel.bearsOf -/
def f_X2_bearsOf (g : zGd) (m : zMm) (a0 : Option Nat) (a1 : Int32) : Option (Int32 × zMm) :=
(zrc g 2 a0 (f_X2_name g m a0 a1)).bind fun m1 =>
(zgr g m1 2 0 a0).bind fun r2 =>
(zald 101 g m1 r2 (2 : Int32)).bind fun v3 =>
(zrc g 2 a0 (f_X2_says g m1 a0 v3 (1 : Int32) (5 : Int32) (99 : Int32))).bind fun (v4, m5) =>
some ((v4, m5))
theorem hy_X2_bearsOf : zHy yX2_bearsOf 1 := ⟨by decide, by decide, by decide +kernel⟩
set_option maxHeartbeats 4000000 in
theorem ok_X2_bearsOf (l : Launch) (g : zGd) (m : zMm) (a0 : Option Nat) (a1 : Int32) (z0 : Int32) (m0 : zMm) (h : f_X2_bearsOf g m a0 a1 = some (z0, m0)) : zCT l yX2_bearsOf cX2_bearsOf 2 (some .int) 7 162 g m [va_rf a0, .int a1] (some (.int z0)) g m0 := by
  refine zCT.of (own := "QuiverKinModel") (mn := "bearsOf") (by decide +kernel) rfl rfl (zla_r (zla_i zla_0)) (zls_r (zls_i zls_0)) (by decide) (fun X hxl hxg hxf hxt hxr hxn => ?_)
  have Kret : ∀ (y0 : Int32) (y1 : zMm), (y0, y1) = (z0, m0) → zRe X g y1 (some (.int y0)) := by
    intro y0 y1 e; cases e; exact ⟨hxf, hxr, hxn⟩
  subst hxl
  show zG X cX2_bearsOf 2 "QuiverKinModel" "bearsOf" 7 162 0 [(0, va_rf a0), (1, .int a1)] [] g m
  unfold f_X2_bearsOf at h
  refine g_aload_n dX2_bearsOf_0 0 rfl ?_
  refine g_iload_n dX2_bearsOf_1 1 rfl ?_
  refine g_cVMn [.int a1] (fun m0 e0 => ok_X2_name (xl X) g m a0 a1 m0 e0) zc2 (by decide) (lw_V q1783 q1785 qs94 q126 q1786) rfl hy_X2_name rfl ⟨by decide, by decide⟩ rfl zc_0 (by decide) dX2_bearsOf_2 h (fun m1 h => ?_)
  refine g_aload_n dX2_bearsOf_5 0 rfl ?_
  refine g_aload_n dX2_bearsOf_6 0 rfl ?_
  refine gf_r zfd_2_0 q1410  (fun _ h9 => h9) dX2_bearsOf_7 h (fun r2 h => ?_)
  refine g_iconst (v := (2 : Int32)) dX2_bearsOf_10 (by decide) ?_
  refine g_iald dX2_bearsOf_11 h (fun v3 h => ?_)
  refine g_iconst (v := (1 : Int32)) dX2_bearsOf_12 (by decide) ?_
  refine g_iconst (v := (5 : Int32)) dX2_bearsOf_13 (by decide) ?_
  refine g_bipush (v := (99 : Int32)) dX2_bearsOf_14 (by decide) ?_
  refine g_cVMv (rv := fun x : Int32 => Value.int x) [.int v3, .int (1 : Int32), .int (5 : Int32), .int (99 : Int32)] (fun x0 m0 e0 => ok_X2_says (xl X) g m1 a0 v3 (1 : Int32) (5 : Int32) (99 : Int32) x0 m0 e0) zc2 (by decide) (lw_V q1791 q1793 qs96 q126 q1794) rfl hy_X2_says rfl ⟨by decide, by decide⟩ rfl zc_0 (by decide) dX2_bearsOf_16 h (fun v4 m5 h => ?_)
  refine g_iret dX2_bearsOf_19 hxt ?_
  have e := Option.some.inj h
  exact Kret _ _ e
/-! QuiverKinModel.anew -/
def f_X2_anew (g : zGd) (m : zMm) (a0 : Option Nat) : Option (zMm) :=
(zgr g m 2 0 a0).bind fun r1 =>
(zgr g m 2 0 a0).bind fun r2 =>
(zald 101 g m r2 (8 : Int32)).bind fun v3 =>
(zast 101 g m r1 (8 : Int32) ((zlrem (((v3.toInt64) * (673 : Int64)) + (547 : Int64)) (30971 : Int64)).toInt32)).bind fun m4 =>
some (m4)
theorem hy_X2_anew : zHy yX2_anew 0 := ⟨by decide, by decide, by decide +kernel⟩
set_option maxHeartbeats 4000000 in
theorem ok_X2_anew (l : Launch) (g : zGd) (m : zMm) (a0 : Option Nat) (m0 : zMm) (h : f_X2_anew g m a0 = some m0) : zCT l yX2_anew cX2_anew 1 none 1 20 g m [va_rf a0] none g m0 := by
  refine zCT.of (own := "QuiverKinModel") (mn := "anew") (by decide +kernel) rfl rfl (zla_r zla_0) (zls_r zls_0) (by decide) (fun X hxl hxg hxf hxt hxr hxn => ?_)
  have Kret : ∀ (y0 : zMm), y0 = m0 → zRe X g y0 none := by
    intro y0 e; cases e; exact ⟨hxf, hxr, hxn⟩
  subst hxl
  show zG X cX2_anew 1 "QuiverKinModel" "anew" 1 20 0 [(0, va_rf a0)] [] g m
  unfold f_X2_anew at h
  refine g_aload_n dX2_anew_0 0 rfl ?_
  refine gf_r zfd_2_0 q1410  (fun _ h9 => h9) dX2_anew_1 h (fun r1 h => ?_)
  refine g_bipush (v := (8 : Int32)) dX2_anew_4 (by decide) ?_
  refine g_aload_n dX2_anew_6 0 rfl ?_
  refine gf_r zfd_2_0 q1410  (fun _ h9 => h9) dX2_anew_7 h (fun r2 h => ?_)
  refine g_bipush (v := (8 : Int32)) dX2_anew_10 (by decide) ?_
  refine g_iald dX2_anew_12 h (fun v3 h => ?_)
  refine g_i2l dX2_anew_13 ?_
  refine g_ldc2 (v := (673 : Int64)) q1776 dX2_anew_14 ?_
  refine g_lmul dX2_anew_17 ?_
  refine g_ldc2 (v := (547 : Int64)) q1777 dX2_anew_18 ?_
  refine g_ladd dX2_anew_21 ?_
  refine g_ldc2 (v := (30971 : Int64)) q1778 dX2_anew_22 ?_
  refine g_lremC dX2_anew_25 (by decide) ?_
  refine g_l2i dX2_anew_26 ?_
  refine g_iast dX2_anew_27 h (fun m4 h => ?_)
  refine g_vret dX2_anew_28 hxt ?_
  have e := Option.some.inj h
  exact Kret _ e
/-! QuiverKinModel.drawnBy -/
def f_X2_drawnBy (g : zGd) (m : zMm) (a0 : Option Nat) (a1 : Int32) : Option (Int32 × zMm) :=
(zgr g m 2 0 a0).bind fun r1 =>
(zald 101 g m r1 (8 : Int32)).bind fun v2 =>
(zmod v2 a1).bind fun v3 =>
(zrc g 2 a0 (f_X2_anew g m a0)).bind fun m4 =>
some ((v3, m4))
theorem hy_X2_drawnBy : zHy yX2_drawnBy 1 := ⟨by decide, by decide, by decide +kernel⟩
set_option maxHeartbeats 4000000 in
theorem ok_X2_drawnBy (l : Launch) (g : zGd) (m : zMm) (a0 : Option Nat) (a1 : Int32) (z0 : Int32) (m0 : zMm) (h : f_X2_drawnBy g m a0 a1 = some (z0, m0)) : zCT l yX2_drawnBy cX2_drawnBy 3 (some .int) 2 40 g m [va_rf a0, .int a1] (some (.int z0)) g m0 := by
  refine zCT.of (own := "QuiverKinModel") (mn := "drawnBy") (by decide +kernel) rfl rfl (zla_r (zla_i zla_0)) (zls_r (zls_i zls_0)) (by decide) (fun X hxl hxg hxf hxt hxr hxn => ?_)
  have Kret : ∀ (y0 : Int32) (y1 : zMm), (y0, y1) = (z0, m0) → zRe X g y1 (some (.int y0)) := by
    intro y0 y1 e; cases e; exact ⟨hxf, hxr, hxn⟩
  subst hxl
  show zG X cX2_drawnBy 3 "QuiverKinModel" "drawnBy" 2 40 0 [(0, va_rf a0), (1, .int a1)] [] g m
  unfold f_X2_drawnBy at h
  refine g_aload_n dX2_drawnBy_0 0 rfl ?_
  refine gf_r zfd_2_0 q1410  (fun _ h9 => h9) dX2_drawnBy_1 h (fun r1 h => ?_)
  refine g_bipush (v := (8 : Int32)) dX2_drawnBy_4 (by decide) ?_
  refine g_iald dX2_drawnBy_6 h (fun v2 h => ?_)
  refine g_iload_n dX2_drawnBy_7 1 rfl ?_
  refine g_irem dX2_drawnBy_8 h (fun v3 h => ?_)
  refine g_istore_n [(2, .int v3), (0, va_rf a0), (1, .int a1)] dX2_drawnBy_9 (by decide) (zf_r (zf_i zf_0)) rfl ?_
  refine g_aload_n dX2_drawnBy_10 1 rfl ?_
  refine g_cVMn [] (fun m0 e0 => ok_X2_anew (xl X) g m a0 m0 e0) zc2 (by decide) (lw_V q1772 q1774 qs92 q126 q1775) rfl hy_X2_anew rfl ⟨by decide, by decide⟩ rfl zc_0 (by decide) dX2_drawnBy_11 h (fun m4 h => ?_)
  refine g_iload_n dX2_drawnBy_14 0 rfl ?_
  refine g_iret dX2_drawnBy_15 hxt ?_
  have e := Option.some.inj h
  exact Kret _ _ e
/-! QuiverKinModel.write -/
def b_X2_write_15 (g : zGd) (a0 : Option Nat) : Int32 × zMm → Option ((zMm) ⊕ (Int32 × zMm)) := fun (v8, m9) =>
if (25 : Int32) ≤ v8 then (some (.inl m9))
else ((zgi g m9 2 23 a0).bind fun v10 =>
if v10 = 0 then (some (.inl m9))
else ((zgr g m9 2 0 a0).bind fun r11 =>
(zgr g m9 2 0 a0).bind fun r12 =>
(zald 101 g m9 r12 ((1425 : Int32) + v8)).bind fun v13 =>
(zast 101 g m9 r11 (((1425 : Int32) + v8) - (1 : Int32)) v13).bind fun m14 =>
zlt (v8 + (1 : Int32)) fun v15 =>
some (.inr (v15, m14))))
def f_X2_write (g : zGd) (m : zMm) (a0 : Option Nat) (a1 : Int32) (a2 : Int32) (a3 : Int32) : Option (zMm) :=
(zgr g m 2 0 a0).bind fun r1 =>
(zald 101 g m r1 (9 : Int32)).bind fun v2 =>
((if v2 = (25 : Int32) then ((zLoop (b_X2_write_15 g a0) zFuel ((1 : Int32), m)).bind fun m6 =>
(zgr g m6 2 0 a0).bind fun r16 =>
(zald 101 g m6 r16 (9 : Int32)).bind fun v17 =>
(zast 101 g m6 r16 (9 : Int32) (v17 - (1 : Int32))).bind fun m18 =>
some (m18))
else (some (m)) : Option (zMm))).bind fun m4 =>
(zgi g m4 2 23 a0).bind fun v19 =>
((if v19 = 0 then (some (m4))
else ((zgr g m4 2 0 a0).bind fun r22 =>
(zgr g m4 2 0 a0).bind fun r23 =>
(zald 101 g m4 r23 (9 : Int32)).bind fun v24 =>
(zgr g m4 2 0 a0).bind fun r25 =>
(zald 101 g m4 r25 (7 : Int32)).bind fun v26 =>
(zast 101 g m4 r22 ((1425 : Int32) + v24) (((((((v26 * (6 : Int32)) + a1) * (64 : Int32)) + a2) * (7 : Int32)) + a3) + (1 : Int32))).bind fun m27 =>
some (m27)) : Option (zMm))).bind fun m21 =>
(zgr g m21 2 0 a0).bind fun r28 =>
(zald 101 g m21 r28 (9 : Int32)).bind fun v29 =>
(zast 101 g m21 r28 (9 : Int32) (v29 + (1 : Int32))).bind fun m30 =>
some (m30)
theorem hy_X2_write : zHy yX2_write 3 := ⟨by decide, by decide, by decide +kernel⟩
set_option maxHeartbeats 4000000 in
theorem ok_X2_write (l : Launch) (g : zGd) (m : zMm) (a0 : Option Nat) (a1 : Int32) (a2 : Int32) (a3 : Int32) (m0 : zMm) (h : f_X2_write g m a0 a1 a2 a3 = some m0) : zCT l yX2_write cX2_write 5 none 1 20 g m [va_rf a0, .int a1, .int a2, .int a3] none g m0 := by
  refine zCT.of (own := "QuiverKinModel") (mn := "write") (by decide +kernel) rfl rfl (zla_r (zla_i (zla_i (zla_i zla_0)))) (zls_r (zls_i (zls_i (zls_i zls_0)))) (by decide) (fun X hxl hxg hxf hxt hxr hxn => ?_)
  have Kret : ∀ (y0 : zMm), y0 = m0 → zRe X g y0 none := by
    intro y0 e; cases e; exact ⟨hxf, hxr, hxn⟩
  subst hxl
  show zG X cX2_write 5 "QuiverKinModel" "write" 1 20 0 [(0, va_rf a0), (1, .int a1), (2, .int a2), (3, .int a3)] [] g m
  unfold f_X2_write at h
  refine g_aload_n dX2_write_0 0 rfl ?_
  refine gf_r zfd_2_0 q1410  (fun _ h9 => h9) dX2_write_1 h (fun r1 h => ?_)
  refine g_bipush (v := (9 : Int32)) dX2_write_4 (by decide) ?_
  refine g_iald dX2_write_6 h (fun v2 h => ?_)
  refine g_bipush (v := (25 : Int32)) dX2_write_7 (by decide) ?_
  obtain ⟨o3, h1, h2⟩ := zB_e h
  have K3 : ∀ (m4 : zMm), o3 = m4 → zG X cX2_write 5 "QuiverKinModel" "write" 1 20 70 [(0, va_rf a0), (1, .int a1), (2, .int a2), (3, .int a3)] [] g m4 := by
    intro m4 e
    rw [e] at h2
    have h := h2
    refine g_aload_n dX2_write_70 0 rfl ?_
    refine gf_i zfd_2_23 q1433  (fun _ h9 => h9) dX2_write_71 h (fun v19 h => ?_)
    obtain ⟨o20, h1, h2⟩ := zB_e h
    have K20 : ∀ (m21 : zMm), o20 = m21 → zG X cX2_write 5 "QuiverKinModel" "write" 1 20 117 [(0, va_rf a0)] [] g m21 := by
      intro m21 e
      rw [e] at h2
      have h := h2
      refine g_aload_n dX2_write_117 0 rfl ?_
      refine gf_r zfd_2_0 q1410  (fun _ h9 => h9) dX2_write_118 h (fun r28 h => ?_)
      refine g_bipush (v := (9 : Int32)) dX2_write_121 (by decide) ?_
      refine g_dup2 dX2_write_123 rfl (zcat_r _) ?_
      refine g_iald dX2_write_124 h (fun v29 h => ?_)
      refine g_iconst (v := (1 : Int32)) dX2_write_125 (by decide) ?_
      refine g_iadd dX2_write_126 ?_
      refine g_iast dX2_write_127 h (fun m30 h => ?_)
      refine g_vret dX2_write_128 hxt ?_
      have e := Option.some.inj h
      exact Kret _ e
    have h := h1
    refine g_if_eq 117 dX2_write_74 (by decide) (fun c => ?_) (fun c => ?_)
    · have h := zite_p h c
      refine zG.sub [0] rfl ?_
      have e := Option.some.inj h
      exact K20 _ e.symm
    · have h := zite_n h c
      refine g_aload_n dX2_write_77 0 rfl ?_
      refine gf_r zfd_2_0 q1410  (fun _ h9 => h9) dX2_write_78 h (fun r22 h => ?_)
      refine g_sipush (v := (1425 : Int32)) dX2_write_81 (by decide) ?_
      refine g_aload_n dX2_write_84 0 rfl ?_
      refine gf_r zfd_2_0 q1410  (fun _ h9 => h9) dX2_write_85 h (fun r23 h => ?_)
      refine g_bipush (v := (9 : Int32)) dX2_write_88 (by decide) ?_
      refine g_iald dX2_write_90 h (fun v24 h => ?_)
      refine g_iadd dX2_write_91 ?_
      refine g_aload_n dX2_write_92 0 rfl ?_
      refine gf_r zfd_2_0 q1410  (fun _ h9 => h9) dX2_write_93 h (fun r25 h => ?_)
      refine g_bipush (v := (7 : Int32)) dX2_write_96 (by decide) ?_
      refine g_iald dX2_write_98 h (fun v26 h => ?_)
      refine g_bipush (v := (6 : Int32)) dX2_write_99 (by decide) ?_
      refine g_imul dX2_write_101 ?_
      refine g_iload_n dX2_write_102 1 rfl ?_
      refine g_iadd dX2_write_103 ?_
      refine g_bipush (v := (64 : Int32)) dX2_write_104 (by decide) ?_
      refine g_imul dX2_write_106 ?_
      refine g_iload_n dX2_write_107 2 rfl ?_
      refine g_iadd dX2_write_108 ?_
      refine g_bipush (v := (7 : Int32)) dX2_write_109 (by decide) ?_
      refine g_imul dX2_write_111 ?_
      refine g_iload_n dX2_write_112 3 rfl ?_
      refine g_iadd dX2_write_113 ?_
      refine g_iconst (v := (1 : Int32)) dX2_write_114 (by decide) ?_
      refine g_iadd dX2_write_115 ?_
      refine g_iast dX2_write_116 h (fun m27 h => ?_)
      refine zG.sub [0] rfl ?_
      have e := Option.some.inj h
      exact K20 _ e.symm
  have h := h1
  refine g_icmp_ne 70 dX2_write_9 (by decide) (fun c => ?_) (fun c => ?_)
  · have h := zite_n h c
    refine zG.sub [0, 1, 2, 3] rfl ?_
    have e := Option.some.inj h
    exact K3 _ e.symm
  · have h := zite_p h c
    refine g_iconst (v := (1 : Int32)) dX2_write_12 (by decide) ?_
    refine g_istore [(4, .int (1 : Int32)), (0, va_rf a0), (1, .int a1), (2, .int a2), (3, .int a3)] dX2_write_13 (by decide) (zf_r (zf_i (zf_i (zf_i zf_0)))) rfl ?_
    obtain ⟨o5, h1, h2⟩ := zB_e h
    have K5 : ∀ (m6 : zMm), o5 = m6 → zG X cX2_write 5 "QuiverKinModel" "write" 1 20 59 [(0, va_rf a0), (1, .int a1), (2, .int a2), (3, .int a3)] [] g m6 := by
      intro m6 e
      rw [e] at h2
      have h := h2
      refine g_aload_n dX2_write_59 0 rfl ?_
      refine gf_r zfd_2_0 q1410  (fun _ h9 => h9) dX2_write_60 h (fun r16 h => ?_)
      refine g_bipush (v := (9 : Int32)) dX2_write_63 (by decide) ?_
      refine g_dup2 dX2_write_65 rfl (zcat_r _) ?_
      refine g_iald dX2_write_66 h (fun v17 h => ?_)
      refine g_iconst (v := (1 : Int32)) dX2_write_67 (by decide) ?_
      refine g_isub dX2_write_68 ?_
      refine g_iast dX2_write_69 h (fun m18 h => ?_)
      refine zG.sub [0, 1, 2, 3] rfl ?_
      have e := Option.some.inj h
      exact K3 _ e.symm
    refine zG.sub [1, 2, 3, 4, 0] rfl ?_
    refine zLoop_ok (Φ := (fun (q : Int32 × zMm) => match q with | (v8, m9) => zG X cX2_write 5 "QuiverKinModel" "write" 1 20 15 [(0, va_rf a0), (1, .int a1), (2, .int a2), (3, .int a3), (4, .int v8)] [] g m9)) o5 ?_ zFuel _ h1
    rintro ⟨v8, m9⟩ x7 h hl7 hr7
    unfold b_X2_write_15 at h
    have K7 : ∀ (v8 : Int32) (m9 : zMm), x7 = .inr (v8, m9) → zG X cX2_write 5 "QuiverKinModel" "write" 1 20 15 [(0, va_rf a0), (1, .int a1), (2, .int a2), (3, .int a3), (4, .int v8)] [] g m9 := by
      intro v8 m9 e
      exact hr7 _ e
    show zG X cX2_write 5 "QuiverKinModel" "write" 1 20 15 [(0, va_rf a0), (1, .int a1), (2, .int a2), (3, .int a3), (4, .int v8)] [] g m9
    refine g_iload dX2_write_15 4 rfl ?_
    refine g_bipush (v := (25 : Int32)) dX2_write_17 (by decide) ?_
    refine g_icmp_ge 59 dX2_write_19 (by decide) (fun c => ?_) (fun c => ?_)
    · have h := zite_p h c
      refine zG.sub [0, 1, 2, 3] rfl ?_
      have e := Option.some.inj h
      have e := hl7 _ e.symm
      exact K5 _ e.symm
    · have h := zite_n h c
      refine g_aload_n dX2_write_22 0 rfl ?_
      refine gf_i zfd_2_23 q1433  (fun _ h9 => h9) dX2_write_23 h (fun v10 h => ?_)
      refine g_if_eq 59 dX2_write_26 (by decide) (fun c => ?_) (fun c => ?_)
      · have h := zite_p h c
        refine zG.sub [0, 1, 2, 3] rfl ?_
        have e := Option.some.inj h
        have e := hl7 _ e.symm
        exact K5 _ e.symm
      · have h := zite_n h c
        refine g_aload_n dX2_write_29 0 rfl ?_
        refine gf_r zfd_2_0 q1410  (fun _ h9 => h9) dX2_write_30 h (fun r11 h => ?_)
        refine g_sipush (v := (1425 : Int32)) dX2_write_33 (by decide) ?_
        refine g_iload dX2_write_36 4 rfl ?_
        refine g_iadd dX2_write_38 ?_
        refine g_iconst (v := (1 : Int32)) dX2_write_39 (by decide) ?_
        refine g_isub dX2_write_40 ?_
        refine g_aload_n dX2_write_41 0 rfl ?_
        refine gf_r zfd_2_0 q1410  (fun _ h9 => h9) dX2_write_42 h (fun r12 h => ?_)
        refine g_sipush (v := (1425 : Int32)) dX2_write_45 (by decide) ?_
        refine g_iload dX2_write_48 4 rfl ?_
        refine g_iadd dX2_write_50 ?_
        refine g_iald dX2_write_51 h (fun v13 h => ?_)
        refine g_iast dX2_write_52 h (fun m14 h => ?_)
        refine g_iinc (v := (1 : Int32)) [(0, va_rf a0), (1, .int a1), (2, .int a2), (3, .int a3)] dX2_write_53 4 rfl (by decide) (by decide) (zf_r (zf_i (zf_i (zf_i (zf_i zf_0))))) rfl h (fun v15 h => ?_)
        refine g_goto 15 dX2_write_56 (by decide) ?_
        refine zG.sub [1, 2, 3, 4, 0] rfl ?_
        have e := Option.some.inj h
        exact K7 _ _ e.symm
/-! QuiverKinModel.looseNow -/
def b_X2_looseNow_21 (g : zGd) (a0 : Option Nat) (a1 : Int32) (m4 : zMm) : Int32 × Int32 → Option ((Int32 × Int32) ⊕ (Int32 × Int32)) := fun (v10, v11) =>
if v11 = a1 then (some (.inl ((v10, v11))))
else ((zgr g m4 2 0 a0).bind fun r12 =>
(zald 101 g m4 r12 ((11 : Int32) + v11)).bind fun v13 =>
if v13 = 0 then (zlt (v10 ||| (zshl (1 : Int32) v11)) fun v14 =>
(zrc g 2 a0 (f_X2_further g m4 a0 v11 (1 : Int32))).bind fun v15 =>
some (.inr (v14, v15)))
else (some (.inl ((v10, v11)))))
def f_X2_looseNow (g : zGd) (m : zMm) (a0 : Option Nat) (a1 : Int32) : Option (zMm) :=
(zgr g m 2 0 a0).bind fun r1 =>
zlt ((11 : Int32) + a1) fun v2 =>
(zald 101 g m r1 v2).bind fun v3 =>
(zast 101 g m r1 v2 (v3 / (2 : Int32))).bind fun m4 =>
(zrc g 2 a0 (f_X2_acrossOf g m4 a0 a1)).bind fun v5 =>
(zLoop (b_X2_looseNow_21 g a0 a1 m4) zFuel ((0 : Int32), v5)).bind fun (v7, v8) =>
((if v8 = a1 then (some (m4))
else ((zrc g 2 a0 (f_X2_more g m4 a0 v8)).bind fun m18 =>
some (m18)) : Option (zMm))).bind fun m17 =>
(zgi g m17 2 24 a0).bind fun v19 =>
(zpi g m17 2 24 a0 (v19 + (1 : Int32))).bind fun m20 =>
((if v8 = a1 then (some ((-1 : Int32)))
else (some (v8)) : Option (Int32))).bind fun v22 =>
(zrc g 2 a0 (f_X2_write g m20 a0 a1 v7 v22)).bind fun m23 =>
some (m23)
theorem hy_X2_looseNow : zHy yX2_looseNow 1 := ⟨by decide, by decide, by decide +kernel⟩
set_option maxHeartbeats 4000000 in
theorem ok_X2_looseNow (l : Launch) (g : zGd) (m : zMm) (a0 : Option Nat) (a1 : Int32) (m0 : zMm) (h : f_X2_looseNow g m a0 a1 = some m0) : zCT l yX2_looseNow cX2_looseNow 4 none 4 85 g m [va_rf a0, .int a1] none g m0 := by
  refine zCT.of (own := "QuiverKinModel") (mn := "looseNow") (by decide +kernel) rfl rfl (zla_r (zla_i zla_0)) (zls_r (zls_i zls_0)) (by decide) (fun X hxl hxg hxf hxt hxr hxn => ?_)
  have Kret : ∀ (y0 : zMm), y0 = m0 → zRe X g y0 none := by
    intro y0 e; cases e; exact ⟨hxf, hxr, hxn⟩
  subst hxl
  show zG X cX2_looseNow 4 "QuiverKinModel" "looseNow" 4 85 0 [(0, va_rf a0), (1, .int a1)] [] g m
  unfold f_X2_looseNow at h
  refine g_aload_n dX2_looseNow_0 0 rfl ?_
  refine gf_r zfd_2_0 q1410  (fun _ h9 => h9) dX2_looseNow_1 h (fun r1 h => ?_)
  refine g_bipush (v := (11 : Int32)) dX2_looseNow_4 (by decide) ?_
  refine g_iload_n dX2_looseNow_6 1 rfl ?_
  refine g_iadd dX2_looseNow_7 ?_
  refine g_leti h (fun v2 h => ?_)
  refine g_dup2 dX2_looseNow_8 rfl (zcat_r _) ?_
  refine g_iald dX2_looseNow_9 h (fun v3 h => ?_)
  refine g_iconst (v := (2 : Int32)) dX2_looseNow_10 (by decide) ?_
  refine g_idivC dX2_looseNow_11 (by decide) ?_
  refine g_iast dX2_looseNow_12 h (fun m4 h => ?_)
  refine g_iconst (v := (0 : Int32)) dX2_looseNow_13 (by decide) ?_
  refine g_istore_n [(2, .int (0 : Int32)), (0, va_rf a0), (1, .int a1)] dX2_looseNow_14 (by decide) (zf_r (zf_i zf_0)) rfl ?_
  refine g_aload_n dX2_looseNow_15 1 rfl ?_
  refine g_iload_n dX2_looseNow_16 2 rfl ?_
  refine g_cVRv (rv := fun x : Int32 => Value.int x) [.int a1] (fun x0 e0 => ok_X2_acrossOf (xl X) g m4 a0 a1 x0 e0) zc2 (by decide) (lw_V q1803 q1805 qs99 q126 q1806) rfl hy_X2_acrossOf rfl ⟨by decide, by decide⟩ rfl zc_0 (by decide) dX2_looseNow_17 h (fun v5 h => ?_)
  refine g_istore_n [(3, .int v5), (2, .int (0 : Int32)), (0, va_rf a0), (1, .int a1)] dX2_looseNow_20 (by decide) (zf_i (zf_r (zf_i zf_0))) rfl ?_
  obtain ⟨o6, h1, h2⟩ := zB_e h
  have K6 : ∀ (v7 : Int32) (v8 : Int32), o6 = (v7, v8) → zG X cX2_looseNow 4 "QuiverKinModel" "looseNow" 4 85 54 [(0, va_rf a0), (1, .int a1), (2, .int v7), (3, .int v8)] [] g m4 := by
    intro v7 v8 e
    rw [e] at h2
    have h := h2
    refine g_iload_n dX2_looseNow_54 3 rfl ?_
    refine g_iload_n dX2_looseNow_55 1 rfl ?_
    obtain ⟨o16, h1, h2⟩ := zB_e h
    have K16 : ∀ (m17 : zMm), o16 = m17 → zG X cX2_looseNow 4 "QuiverKinModel" "looseNow" 4 85 64 [(0, va_rf a0), (1, .int a1), (2, .int v7), (3, .int v8)] [] g m17 := by
      intro m17 e
      rw [e] at h2
      have h := h2
      refine g_aload_n dX2_looseNow_64 0 rfl ?_
      refine g_dup dX2_looseNow_65 (zcat_r _) ?_
      refine gf_i zfd_2_24 q1434  (fun _ h9 => h9) dX2_looseNow_66 h (fun v19 h => ?_)
      refine g_iconst (v := (1 : Int32)) dX2_looseNow_69 (by decide) ?_
      refine g_iadd dX2_looseNow_70 ?_
      refine gp_i zpd_2_24 q1434 (fun _ h9 => h9) dX2_looseNow_71 h (fun m20 h => ?_)
      refine g_aload_n dX2_looseNow_74 0 rfl ?_
      refine g_iload_n dX2_looseNow_75 1 rfl ?_
      refine g_iload_n dX2_looseNow_76 2 rfl ?_
      refine g_iload_n dX2_looseNow_77 3 rfl ?_
      refine g_iload_n dX2_looseNow_78 1 rfl ?_
      obtain ⟨o21, h1, h2⟩ := zB_e h
      have K21 : ∀ (v22 : Int32), o21 = v22 → zG X cX2_looseNow 4 "QuiverKinModel" "looseNow" 4 85 87 [] [.int v22, .int v7, .int a1, va_rf a0] g m20 := by
        intro v22 e
        rw [e] at h2
        have h := h2
        refine g_cVMn [.int a1, .int v7, .int v22] (fun m0 e0 => ok_X2_write (xl X) g m20 a0 a1 v7 v22 m0 e0) zc2 (by decide) (lw_V q1829 q1831 qs102 q126 q1832) rfl hy_X2_write rfl ⟨by decide, by decide⟩ rfl zc_0 (by decide) dX2_looseNow_87 h (fun m23 h => ?_)
        refine g_vret dX2_looseNow_90 hxt ?_
        have e := Option.some.inj h
        exact Kret _ e
      have h := h1
      refine g_icmp_ne 86 dX2_looseNow_79 (by decide) (fun c => ?_) (fun c => ?_)
      · have h := zite_n h c
        refine g_iload_n dX2_looseNow_86 3 rfl ?_
        refine zG.sub [] rfl ?_
        have e := Option.some.inj h
        exact K21 _ e.symm
      · have h := zite_p h c
        refine g_iconst (v := (-1 : Int32)) dX2_looseNow_82 (by decide) ?_
        refine g_goto 87 dX2_looseNow_83 (by decide) ?_
        refine zG.sub [] rfl ?_
        have e := Option.some.inj h
        exact K21 _ e.symm
    have h := h1
    refine g_icmp_eq 64 dX2_looseNow_56 (by decide) (fun c => ?_) (fun c => ?_)
    · have h := zite_p h c
      refine zG.sub [0, 1, 2, 3] rfl ?_
      have e := Option.some.inj h
      exact K16 _ e.symm
    · have h := zite_n h c
      refine g_aload_n dX2_looseNow_59 0 rfl ?_
      refine g_iload_n dX2_looseNow_60 3 rfl ?_
      refine g_cVMn [.int v8] (fun m0 e0 => ok_X2_more (xl X) g m4 a0 v8 m0 e0) zc2 (by decide) (lw_V q1725 q1727 qs85 q126 q1728) rfl hy_X2_more rfl ⟨by decide, by decide⟩ rfl zc_0 (by decide) dX2_looseNow_61 h (fun m18 h => ?_)
      refine zG.sub [0, 1, 2, 3] rfl ?_
      have e := Option.some.inj h
      exact K16 _ e.symm
  refine zG.sub [2, 3, 1, 0] rfl ?_
  refine zLoop_ok (Φ := (fun (q : Int32 × Int32) => match q with | (v10, v11) => zG X cX2_looseNow 4 "QuiverKinModel" "looseNow" 4 85 21 [(0, va_rf a0), (1, .int a1), (2, .int v10), (3, .int v11)] [] g m4)) o6 ?_ zFuel _ h1
  rintro ⟨v10, v11⟩ x9 h hl9 hr9
  unfold b_X2_looseNow_21 at h
  have K9 : ∀ (v10 : Int32) (v11 : Int32), x9 = .inr (v10, v11) → zG X cX2_looseNow 4 "QuiverKinModel" "looseNow" 4 85 21 [(0, va_rf a0), (1, .int a1), (2, .int v10), (3, .int v11)] [] g m4 := by
    intro v10 v11 e
    exact hr9 _ e
  show zG X cX2_looseNow 4 "QuiverKinModel" "looseNow" 4 85 21 [(0, va_rf a0), (1, .int a1), (2, .int v10), (3, .int v11)] [] g m4
  refine g_iload_n dX2_looseNow_21 3 rfl ?_
  refine g_iload_n dX2_looseNow_22 1 rfl ?_
  refine g_icmp_eq 54 dX2_looseNow_23 (by decide) (fun c => ?_) (fun c => ?_)
  · have h := zite_p h c
    refine zG.sub [0, 1, 2, 3] rfl ?_
    have e := Option.some.inj h
    have e := hl9 _ e.symm
    exact K6 _ _ e.symm
  · have h := zite_n h c
    refine g_aload_n dX2_looseNow_26 0 rfl ?_
    refine gf_r zfd_2_0 q1410  (fun _ h9 => h9) dX2_looseNow_27 h (fun r12 h => ?_)
    refine g_bipush (v := (11 : Int32)) dX2_looseNow_30 (by decide) ?_
    refine g_iload_n dX2_looseNow_32 3 rfl ?_
    refine g_iadd dX2_looseNow_33 ?_
    refine g_iald dX2_looseNow_34 h (fun v13 h => ?_)
    refine g_if_ne 54 dX2_looseNow_35 (by decide) (fun c => ?_) (fun c => ?_)
    · have h := zite_n h c
      refine zG.sub [0, 1, 2, 3] rfl ?_
      have e := Option.some.inj h
      have e := hl9 _ e.symm
      exact K6 _ _ e.symm
    · have h := zite_p h c
      refine g_iload_n dX2_looseNow_38 2 rfl ?_
      refine g_iconst (v := (1 : Int32)) dX2_looseNow_39 (by decide) ?_
      refine g_iload_n dX2_looseNow_40 3 rfl ?_
      refine g_ishl dX2_looseNow_41 ?_
      refine g_ior dX2_looseNow_42 ?_
      refine g_leti h (fun v14 h => ?_)
      refine g_istore_n [(2, .int v14), (0, va_rf a0), (1, .int a1), (3, .int v11)] dX2_looseNow_43 (by decide) (zf_r (zf_i (zf_i (zf_i zf_0)))) rfl ?_
      refine g_aload_n dX2_looseNow_44 1 rfl ?_
      refine g_iload_n dX2_looseNow_45 3 rfl ?_
      refine g_iconst (v := (1 : Int32)) dX2_looseNow_46 (by decide) ?_
      refine g_cVRv (rv := fun x : Int32 => Value.int x) [.int v11, .int (1 : Int32)] (fun x0 e0 => ok_X2_further (xl X) g m4 a0 v11 (1 : Int32) x0 e0) zc2 (by decide) (lw_V q1787 q1789 qs95 q126 q1790) rfl hy_X2_further rfl ⟨by decide, by decide⟩ rfl zc_0 (by decide) dX2_looseNow_47 h (fun v15 h => ?_)
      refine g_istore_n [(3, .int v15), (2, .int v14), (0, va_rf a0), (1, .int a1)] dX2_looseNow_50 (by decide) (zf_i (zf_r (zf_i (zf_i zf_0)))) rfl ?_
      refine g_goto 21 dX2_looseNow_51 (by decide) ?_
      refine zG.sub [2, 3, 1, 0] rfl ?_
      have e := Option.some.inj h
      exact K9 _ _ e.symm
