/-! methods (printed by gen/run2.py) -/
set_option maxRecDepth 100000
/-! QuiverKinModel.copy -/
def b_X2_copy_2 (g : zGd) (a0 : Option Nat) (a1 : Option Nat) : Int32 × zMm → Option ((zMm) ⊕ (Int32 × zMm)) := fun (v4, m5) =>
if (1450 : Int32) ≤ v4 then (some (.inl m5))
else ((zald 101 g m5 a0 v4).bind fun v6 =>
(zast 101 g m5 a1 v4 v6).bind fun m7 =>
zlt (v4 + (1 : Int32)) fun v8 =>
some (.inr (v8, m7)))
def f_X2_copy (g : zGd) (m : zMm) (a0 : Option Nat) (a1 : Option Nat) : Option (zMm) :=
(zLoop (b_X2_copy_2 g a0 a1) zFuel ((0 : Int32), m)).bind fun m2 =>
some (m2)
theorem hy_X2_copy : zHy yX2_copy 2 := ⟨by decide, by decide, by decide +kernel⟩
set_option maxHeartbeats 4000000 in
theorem ok_X2_copy (l : Launch) (g : zGd) (m : zMm) (a0 : Option Nat) (a1 : Option Nat) (m0 : zMm) (h : f_X2_copy g m a0 a1 = some m0) : zCT l yX2_copy cX2_copy 3 none 1 20 g m [va_rf a0, va_rf a1] none g m0 := by
  refine zCT.of (own := "QuiverKinModel") (mn := "copy") (by decide +kernel) rfl rfl (zla_r (zla_r zla_0)) (zls_r (zls_r zls_0)) (by decide) (fun X hxl hxg hxf hxt hxr hxn => ?_)
  have Kret : ∀ (y0 : zMm), y0 = m0 → zRe X g y0 none := by
    intro y0 e; cases e; exact ⟨hxf, hxr, hxn⟩
  subst hxl
  show zG X cX2_copy 3 "QuiverKinModel" "copy" 1 20 0 [(0, va_rf a0), (1, va_rf a1)] [] g m
  unfold f_X2_copy at h
  refine g_iconst (v := (0 : Int32)) dX2_copy_0 (by decide) ?_
  refine g_istore_n [(2, .int (0 : Int32)), (0, va_rf a0), (1, va_rf a1)] dX2_copy_1 (by decide) (zf_r (zf_r zf_0)) rfl ?_
  obtain ⟨o1, h1, h2⟩ := zB_e h
  have K1 : ∀ (m2 : zMm), o1 = m2 → zG X cX2_copy 3 "QuiverKinModel" "copy" 1 20 21 [] [] g m2 := by
    intro m2 e
    rw [e] at h2
    have h := h2
    refine g_vret dX2_copy_21 hxt ?_
    have e := Option.some.inj h
    exact Kret _ e
  refine zG.sub [1, 2, 0] rfl ?_
  refine zLoop_ok (Φ := (fun (q : Int32 × zMm) => match q with | (v4, m5) => zG X cX2_copy 3 "QuiverKinModel" "copy" 1 20 2 [(0, va_rf a0), (1, va_rf a1), (2, .int v4)] [] g m5)) o1 ?_ zFuel _ h1
  rintro ⟨v4, m5⟩ x3 h hl3 hr3
  unfold b_X2_copy_2 at h
  have K3 : ∀ (v4 : Int32) (m5 : zMm), x3 = .inr (v4, m5) → zG X cX2_copy 3 "QuiverKinModel" "copy" 1 20 2 [(0, va_rf a0), (1, va_rf a1), (2, .int v4)] [] g m5 := by
    intro v4 m5 e
    exact hr3 _ e
  show zG X cX2_copy 3 "QuiverKinModel" "copy" 1 20 2 [(0, va_rf a0), (1, va_rf a1), (2, .int v4)] [] g m5
  refine g_iload_n dX2_copy_2 2 rfl ?_
  refine g_sipush (v := (1450 : Int32)) dX2_copy_3 (by decide) ?_
  refine g_icmp_ge 21 dX2_copy_6 (by decide) (fun c => ?_) (fun c => ?_)
  · have h := zite_p h c
    refine zG.sub [] rfl ?_
    have e := Option.some.inj h
    have e := hl3 _ e.symm
    exact K1 _ e.symm
  · have h := zite_n h c
    refine g_aload_n dX2_copy_9 1 rfl ?_
    refine g_iload_n dX2_copy_10 2 rfl ?_
    refine g_aload_n dX2_copy_11 0 rfl ?_
    refine g_iload_n dX2_copy_12 2 rfl ?_
    refine g_iald dX2_copy_13 h (fun v6 h => ?_)
    refine g_iast dX2_copy_14 h (fun m7 h => ?_)
    refine g_iinc (v := (1 : Int32)) [(0, va_rf a0), (1, va_rf a1)] dX2_copy_15 2 rfl (by decide) (by decide) (zf_r (zf_r (zf_i zf_0))) rfl h (fun v8 h => ?_)
    refine g_goto 2 dX2_copy_18 (by decide) ?_
    refine zG.sub [1, 2, 0] rfl ?_
    have e := Option.some.inj h
    exact K3 _ _ e.symm
/-! QuiverKinModel.<init> -/
def f_X2_init (g : zGd) (m : zMm) (a0 : Option Nat) : Option (zGd × zMm) :=
zob a0 ((znewa 101 g m (1450 : Int32)).bind fun (g1, m2) =>
zlt (some (zZ g)) fun r3 =>
(zpr g1 m2 2 0 a0 r3).bind fun m4 =>
(znewa 101 g1 m4 (1450 : Int32)).bind fun (g5, m6) =>
zlt (some (zZ g1)) fun r7 =>
(zpr g5 m6 2 1 a0 r7).bind fun m8 =>
(znewa 101 g5 m8 (2724 : Int32)).bind fun (g9, m10) =>
zlt (some (zZ g5)) fun r11 =>
(zpr g9 m10 2 2 a0 r11).bind fun m12 =>
(znewa 101 g9 m12 (300 : Int32)).bind fun (g13, m14) =>
zlt (some (zZ g9)) fun r15 =>
(zpr g13 m14 2 3 a0 r15).bind fun m16 =>
(zpi g13 m16 2 5 a0 (-1 : Int32)).bind fun m17 =>
(zpi g13 m17 2 6 a0 (-1 : Int32)).bind fun m18 =>
(znewa 101 g13 m18 (160 : Int32)).bind fun (g19, m20) =>
zlt (some (zZ g13)) fun r21 =>
(zpr g19 m20 2 15 a0 r21).bind fun m22 =>
(znewa 101 g19 m22 (7 : Int32)).bind fun (g23, m24) =>
zlt (some (zZ g19)) fun r25 =>
(zpr g23 m24 2 20 a0 r25).bind fun m26 =>
(znewa 104 g23 m26 (330 : Int32)).bind fun (g27, m28) =>
zlt (some (zZ g23)) fun r29 =>
(zpr g27 m28 2 21 a0 r29).bind fun m30 =>
(znewa 103 g27 m30 (330 : Int32)).bind fun (g31, m32) =>
zlt (some (zZ g27)) fun r33 =>
(zpr g31 m32 2 22 a0 r33).bind fun m34 =>
(zpz g31 m34 2 23 a0 (1 : Int32)).bind fun m35 =>
(znewa 101 g31 m35 (23 : Int32)).bind fun (g36, m37) =>
zlt (some (zZ g31)) fun r38 =>
(zpr g36 m37 2 25 a0 r38).bind fun m39 =>
(znewa 101 g36 m39 (6 : Int32)).bind fun (g40, m41) =>
zlt (some (zZ g36)) fun r42 =>
(zpr g40 m41 2 26 a0 r42).bind fun m43 =>
(znewa 101 g40 m43 (6 : Int32)).bind fun (g44, m45) =>
zlt (some (zZ g40)) fun r46 =>
(zpr g44 m45 2 27 a0 r46).bind fun m47 =>
(znewa 103 g44 m47 (144 : Int32)).bind fun (g48, m49) =>
zlt (some (zZ g44)) fun r50 =>
(zpr g48 m49 2 31 a0 r50).bind fun m51 =>
(znewa 101 g48 m51 (125 : Int32)).bind fun (g52, m53) =>
zlt (some (zZ g48)) fun r54 =>
(zpr g52 m53 2 36 a0 r54).bind fun m55 =>
(znewa 101 g52 m55 (31 : Int32)).bind fun (g56, m57) =>
zlt (some (zZ g52)) fun r58 =>
(zpr g56 m57 2 37 a0 r58).bind fun m59 =>
(znewa 103 g56 m59 (7776 : Int32)).bind fun (g60, m61) =>
zlt (some (zZ g56)) fun r62 =>
(zpr g60 m61 2 38 a0 r62).bind fun m63 =>
(zgr g60 m63 2 0 a0).bind fun r64 =>
(zast 101 g60 m63 r64 (8 : Int32) (421 : Int32)).bind fun m65 =>
(zgr g60 m65 2 0 a0).bind fun r66 =>
(zast 101 g60 m65 r66 (2 : Int32) (-1 : Int32)).bind fun m67 =>
(zgr g60 m67 2 0 a0).bind fun r68 =>
(zgr g60 m67 2 1 a0).bind fun r69 =>
(f_X2_copy g60 m67 r68 r69).bind fun m70 =>
some ((g60, m70)))
theorem hy_X2_init : zHy yX2_init 0 := ⟨by decide, by decide, by decide +kernel⟩
set_option maxHeartbeats 4000000 in
theorem ok_X2_init (l : Launch) (g : zGd) (m : zMm) (a0 : Option Nat) (g0 : zGd) (m0 : zMm) (h : f_X2_init g m a0 = some (g0, m0)) : zCT l yX2_init cX2_init 1 none 2 42 g m [va_rf a0] none g0 m0 := by
  refine zCT.of (own := "QuiverKinModel") (mn := "<init>") (by decide +kernel) rfl rfl (zla_r zla_0) (zls_r zls_0) (by decide) (fun X hxl hxg hxf hxt hxr hxn => ?_)
  have Kret : ∀ (y0 : zGd) (y1 : zMm), (y0, y1) = (g0, m0) → zRe X y0 y1 none := by
    intro y0 y1 e; cases e; exact ⟨hxf, hxr, hxn⟩
  subst hxl
  show zG X cX2_init 1 "QuiverKinModel" "<init>" 2 42 0 [(0, va_rf a0)] [] g m
  unfold f_X2_init at h
  refine g_aload_n dX2_init_0 0 rfl ?_
  obtain ⟨hs, h⟩ := zob_e h
  refine g_oinit q1406 q164 q165 hs zc_0 (by decide) (by decide) dX2_init_1 ?_
  refine g_aload_n dX2_init_4 0 rfl ?_
  refine g_sipush (v := (1450 : Int32)) dX2_init_5 (by decide) ?_
  refine g_newa 0 rfl (by decide) rfl q225 dX2_init_8 h (fun g1 m2 h => ?_)
  refine g_letr h (fun r3 h => ?_)
  refine gp_rF zpd_2_0 q1410 (fun _ h9 => h9) rfl rfl dX2_init_10 h (fun m4 h => ?_)
  refine g_aload_n dX2_init_13 0 rfl ?_
  refine g_sipush (v := (1450 : Int32)) dX2_init_14 (by decide) ?_
  refine g_newa 0 rfl (by decide) rfl q225 dX2_init_17 h (fun g5 m6 h => ?_)
  refine g_letr h (fun r7 h => ?_)
  refine gp_rF zpd_2_1 q1411 (fun _ h9 => h9) rfl rfl dX2_init_19 h (fun m8 h => ?_)
  refine g_aload_n dX2_init_22 0 rfl ?_
  refine g_sipush (v := (2724 : Int32)) dX2_init_23 (by decide) ?_
  refine g_newa 0 rfl (by decide) rfl q225 dX2_init_26 h (fun g9 m10 h => ?_)
  refine g_letr h (fun r11 h => ?_)
  refine gp_rF zpd_2_2 q1412 (fun _ h9 => h9) rfl rfl dX2_init_28 h (fun m12 h => ?_)
  refine g_aload_n dX2_init_31 0 rfl ?_
  refine g_sipush (v := (300 : Int32)) dX2_init_32 (by decide) ?_
  refine g_newa 0 rfl (by decide) rfl q225 dX2_init_35 h (fun g13 m14 h => ?_)
  refine g_letr h (fun r15 h => ?_)
  refine gp_rF zpd_2_3 q1413 (fun _ h9 => h9) rfl rfl dX2_init_37 h (fun m16 h => ?_)
  refine g_aload_n dX2_init_40 0 rfl ?_
  refine g_iconst (v := (-1 : Int32)) dX2_init_41 (by decide) ?_
  refine gp_i zpd_2_5 q1415 (fun _ h9 => h9) dX2_init_42 h (fun m17 h => ?_)
  refine g_aload_n dX2_init_45 0 rfl ?_
  refine g_iconst (v := (-1 : Int32)) dX2_init_46 (by decide) ?_
  refine gp_i zpd_2_6 q1416 (fun _ h9 => h9) dX2_init_47 h (fun m18 h => ?_)
  refine g_aload_n dX2_init_50 0 rfl ?_
  refine g_sipush (v := (160 : Int32)) dX2_init_51 (by decide) ?_
  refine g_newa 0 rfl (by decide) rfl q225 dX2_init_54 h (fun g19 m20 h => ?_)
  refine g_letr h (fun r21 h => ?_)
  refine gp_rF zpd_2_15 q1425 (fun _ h9 => h9) rfl rfl dX2_init_56 h (fun m22 h => ?_)
  refine g_aload_n dX2_init_59 0 rfl ?_
  refine g_bipush (v := (7 : Int32)) dX2_init_60 (by decide) ?_
  refine g_newa 0 rfl (by decide) rfl q225 dX2_init_62 h (fun g23 m24 h => ?_)
  refine g_letr h (fun r25 h => ?_)
  refine gp_rF zpd_2_20 q1430 (fun _ h9 => h9) rfl rfl dX2_init_64 h (fun m26 h => ?_)
  refine g_aload_n dX2_init_67 0 rfl ?_
  refine g_sipush (v := (330 : Int32)) dX2_init_68 (by decide) ?_
  refine g_newa 3 rfl (by decide) rfl q1528 dX2_init_71 h (fun g27 m28 h => ?_)
  refine g_letr h (fun r29 h => ?_)
  refine gp_rF zpd_2_21 q1431 (fun _ h9 => h9) rfl rfl dX2_init_73 h (fun m30 h => ?_)
  refine g_aload_n dX2_init_76 0 rfl ?_
  refine g_sipush (v := (330 : Int32)) dX2_init_77 (by decide) ?_
  refine g_newa 2 rfl (by decide) rfl q1529 dX2_init_80 h (fun g31 m32 h => ?_)
  refine g_letr h (fun r33 h => ?_)
  refine gp_rF zpd_2_22 q1432 (fun _ h9 => h9) rfl rfl dX2_init_82 h (fun m34 h => ?_)
  refine g_aload_n dX2_init_85 0 rfl ?_
  refine g_iconst (v := (1 : Int32)) dX2_init_86 (by decide) ?_
  refine gp_z zpd_2_23 q1433 (fun _ h9 => h9) dX2_init_87 h (fun m35 h => ?_)
  refine g_aload_n dX2_init_90 0 rfl ?_
  refine g_bipush (v := (23 : Int32)) dX2_init_91 (by decide) ?_
  refine g_newa 0 rfl (by decide) rfl q225 dX2_init_93 h (fun g36 m37 h => ?_)
  refine g_letr h (fun r38 h => ?_)
  refine gp_rF zpd_2_25 q1435 (fun _ h9 => h9) rfl rfl dX2_init_95 h (fun m39 h => ?_)
  refine g_aload_n dX2_init_98 0 rfl ?_
  refine g_bipush (v := (6 : Int32)) dX2_init_99 (by decide) ?_
  refine g_newa 0 rfl (by decide) rfl q225 dX2_init_101 h (fun g40 m41 h => ?_)
  refine g_letr h (fun r42 h => ?_)
  refine gp_rF zpd_2_26 q1436 (fun _ h9 => h9) rfl rfl dX2_init_103 h (fun m43 h => ?_)
  refine g_aload_n dX2_init_106 0 rfl ?_
  refine g_bipush (v := (6 : Int32)) dX2_init_107 (by decide) ?_
  refine g_newa 0 rfl (by decide) rfl q225 dX2_init_109 h (fun g44 m45 h => ?_)
  refine g_letr h (fun r46 h => ?_)
  refine gp_rF zpd_2_27 q1437 (fun _ h9 => h9) rfl rfl dX2_init_111 h (fun m47 h => ?_)
  refine g_aload_n dX2_init_114 0 rfl ?_
  refine g_sipush (v := (144 : Int32)) dX2_init_115 (by decide) ?_
  refine g_newa 2 rfl (by decide) rfl q1529 dX2_init_118 h (fun g48 m49 h => ?_)
  refine g_letr h (fun r50 h => ?_)
  refine gp_rF zpd_2_31 q1441 (fun _ h9 => h9) rfl rfl dX2_init_120 h (fun m51 h => ?_)
  refine g_aload_n dX2_init_123 0 rfl ?_
  refine g_bipush (v := (125 : Int32)) dX2_init_124 (by decide) ?_
  refine g_newa 0 rfl (by decide) rfl q225 dX2_init_126 h (fun g52 m53 h => ?_)
  refine g_letr h (fun r54 h => ?_)
  refine gp_rF zpd_2_36 q1446 (fun _ h9 => h9) rfl rfl dX2_init_128 h (fun m55 h => ?_)
  refine g_aload_n dX2_init_131 0 rfl ?_
  refine g_bipush (v := (31 : Int32)) dX2_init_132 (by decide) ?_
  refine g_newa 0 rfl (by decide) rfl q225 dX2_init_134 h (fun g56 m57 h => ?_)
  refine g_letr h (fun r58 h => ?_)
  refine gp_rF zpd_2_37 q1447 (fun _ h9 => h9) rfl rfl dX2_init_136 h (fun m59 h => ?_)
  refine g_aload_n dX2_init_139 0 rfl ?_
  refine g_sipush (v := (7776 : Int32)) dX2_init_140 (by decide) ?_
  refine g_newa 2 rfl (by decide) rfl q1529 dX2_init_143 h (fun g60 m61 h => ?_)
  refine g_letr h (fun r62 h => ?_)
  refine gp_rF zpd_2_38 q1448 (fun _ h9 => h9) rfl rfl dX2_init_145 h (fun m63 h => ?_)
  refine g_aload_n dX2_init_148 0 rfl ?_
  refine gf_r zfd_2_0 q1410  (fun _ h9 => h9) dX2_init_149 h (fun r64 h => ?_)
  refine g_bipush (v := (8 : Int32)) dX2_init_152 (by decide) ?_
  refine g_sipush (v := (421 : Int32)) dX2_init_154 (by decide) ?_
  refine g_iast dX2_init_157 h (fun m65 h => ?_)
  refine g_aload_n dX2_init_158 0 rfl ?_
  refine gf_r zfd_2_0 q1410  (fun _ h9 => h9) dX2_init_159 h (fun r66 h => ?_)
  refine g_iconst (v := (2 : Int32)) dX2_init_162 (by decide) ?_
  refine g_iconst (v := (-1 : Int32)) dX2_init_163 (by decide) ?_
  refine g_iast dX2_init_164 h (fun m67 h => ?_)
  refine g_aload_n dX2_init_165 0 rfl ?_
  refine gf_r zfd_2_0 q1410  (fun _ h9 => h9) dX2_init_166 h (fun r68 h => ?_)
  refine g_aload_n dX2_init_169 0 rfl ?_
  refine gf_r zfd_2_1 q1411  (fun _ h9 => h9) dX2_init_170 h (fun r69 h => ?_)
  refine g_cSMn [va_rf r68, va_rf r69] (fun m0 e0 => ok_X2_copy (xl X) g60 m67 r68 r69 m0 e0) (lw_S q1407 q1408 q126 q1409) hy_X2_copy rfl ⟨by decide, by decide⟩ rfl zc_0 (by decide) dX2_init_173 h (fun m70 h => ?_)
  refine g_vret dX2_init_176 hxt ?_
  have e := Option.some.inj h
  exact Kret _ _ e
/-! QuiverKinModel.begin -/
def f_X2_begin (g : zGd) (m : zMm) (a0 : Option Nat) (a1 : Int32) : Option (zMm) :=
(zgr g m 2 0 a0).bind fun r1 =>
(zgr g m 2 0 a0).bind fun r2 =>
(zald 101 g m r2 ((29 : Int32) + a1)).bind fun v3 =>
(zast 101 g m r1 ((11 : Int32) + a1) v3).bind fun m4 =>
(zgr g m4 2 0 a0).bind fun r5 =>
(zast 101 g m4 r5 ((17 : Int32) + a1) a1).bind fun m6 =>
some (m6)
theorem hy_X2_begin : zHy yX2_begin 1 := ⟨by decide, by decide, by decide +kernel⟩
set_option maxHeartbeats 4000000 in
theorem ok_X2_begin (l : Launch) (g : zGd) (m : zMm) (a0 : Option Nat) (a1 : Int32) (m0 : zMm) (h : f_X2_begin g m a0 a1 = some m0) : zCT l yX2_begin cX2_begin 2 none 1 20 g m [va_rf a0, .int a1] none g m0 := by
  refine zCT.of (own := "QuiverKinModel") (mn := "begin") (by decide +kernel) rfl rfl (zla_r (zla_i zla_0)) (zls_r (zls_i zls_0)) (by decide) (fun X hxl hxg hxf hxt hxr hxn => ?_)
  have Kret : ∀ (y0 : zMm), y0 = m0 → zRe X g y0 none := by
    intro y0 e; cases e; exact ⟨hxf, hxr, hxn⟩
  subst hxl
  show zG X cX2_begin 2 "QuiverKinModel" "begin" 1 20 0 [(0, va_rf a0), (1, .int a1)] [] g m
  unfold f_X2_begin at h
  refine g_aload_n dX2_begin_0 0 rfl ?_
  refine gf_r zfd_2_0 q1410  (fun _ h9 => h9) dX2_begin_1 h (fun r1 h => ?_)
  refine g_bipush (v := (11 : Int32)) dX2_begin_4 (by decide) ?_
  refine g_iload_n dX2_begin_6 1 rfl ?_
  refine g_iadd dX2_begin_7 ?_
  refine g_aload_n dX2_begin_8 0 rfl ?_
  refine gf_r zfd_2_0 q1410  (fun _ h9 => h9) dX2_begin_9 h (fun r2 h => ?_)
  refine g_bipush (v := (29 : Int32)) dX2_begin_12 (by decide) ?_
  refine g_iload_n dX2_begin_14 1 rfl ?_
  refine g_iadd dX2_begin_15 ?_
  refine g_iald dX2_begin_16 h (fun v3 h => ?_)
  refine g_iast dX2_begin_17 h (fun m4 h => ?_)
  refine g_aload_n dX2_begin_18 0 rfl ?_
  refine gf_r zfd_2_0 q1410  (fun _ h9 => h9) dX2_begin_19 h (fun r5 h => ?_)
  refine g_bipush (v := (17 : Int32)) dX2_begin_22 (by decide) ?_
  refine g_iload_n dX2_begin_24 1 rfl ?_
  refine g_iadd dX2_begin_25 ?_
  refine g_iload_n dX2_begin_26 1 rfl ?_
  refine g_iast dX2_begin_27 h (fun m6 h => ?_)
  refine g_vret dX2_begin_28 hxt ?_
  have e := Option.some.inj h
  exact Kret _ e
/-! QuiverKinModel.isIn -/
def f_X2_isIn (a0 : Int32) (a1 : Int32) (a2 : Int32) : Option (Int32) :=
if a0 < a1 then (some ((0 : Int32)))
else (if a2 < a0 then (some ((0 : Int32)))
else (some ((1 : Int32))))
theorem hy_X2_isIn : zHy yX2_isIn 3 := ⟨by decide, by decide, by decide +kernel⟩
set_option maxHeartbeats 4000000 in
theorem ok_X2_isIn (l : Launch) (g : zGd) (m : zMm) (a0 : Int32) (a1 : Int32) (a2 : Int32) (z0 : Int32) (h : f_X2_isIn a0 a1 a2 = some z0) : zCT l yX2_isIn cX2_isIn 3 (some .boolean) 1 20 g m [.int a0, .int a1, .int a2] (some (.int z0)) g m := by
  refine zCT.of (own := "QuiverKinModel") (mn := "isIn") (by decide +kernel) rfl rfl (zla_i (zla_i (zla_i zla_0))) (zls_i (zls_i (zls_i zls_0))) (by decide) (fun X hxl hxg hxf hxt hxr hxn => ?_)
  have Kret : ∀ (y0 : Int32), y0 = z0 → zRe X g m (some (.int y0)) := by
    intro y0 e; cases e; exact ⟨hxf, hxr, hxn⟩
  subst hxl
  show zG X cX2_isIn 3 "QuiverKinModel" "isIn" 1 20 0 [(0, .int a0), (1, .int a1), (2, .int a2)] [] g m
  unfold f_X2_isIn at h
  refine g_iload_n dX2_isIn_0 0 rfl ?_
  refine g_iload_n dX2_isIn_1 1 rfl ?_
  refine g_icmp_lt 14 dX2_isIn_2 (by decide) (fun c => ?_) (fun c => ?_)
  · have h := zite_p h c
    refine g_iconst (v := (0 : Int32)) dX2_isIn_14 (by decide) ?_
    refine g_zret dX2_isIn_15 hxt rfl ?_
    have e := Option.some.inj h
    exact Kret _ e
  · have h := zite_n h c
    refine g_iload_n dX2_isIn_5 0 rfl ?_
    refine g_iload_n dX2_isIn_6 2 rfl ?_
    refine g_icmp_gt 14 dX2_isIn_7 (by decide) (fun c => ?_) (fun c => ?_)
    · have h := zite_p h c
      refine g_iconst (v := (0 : Int32)) dX2_isIn_14 (by decide) ?_
      refine g_zret dX2_isIn_15 hxt rfl ?_
      have e := Option.some.inj h
      exact Kret _ e
    · have h := zite_n h c
      refine g_iconst (v := (1 : Int32)) dX2_isIn_10 (by decide) ?_
      refine g_goto 15 dX2_isIn_11 (by decide) ?_
      refine g_zret dX2_isIn_15 hxt rfl ?_
      have e := Option.some.inj h
      exact Kret _ e
/-! QuiverKinModel.kin -/
def f_X2_kin (g : zGd) (m : zMm) (a0 : Option Nat) (a1 : Int32) (a2 : Int32) : Option (Int32 × zMm) :=
(f_X2_isIn a1 (0 : Int32) (9 : Int32)).bind fun v1 =>
if v1 = 0 then (some (((-1 : Int32), m)))
else ((f_X2_isIn a2 (0 : Int32) (99 : Int32)).bind fun v2 =>
if v2 = 0 then (some (((-1 : Int32), m)))
else ((zgr g m 2 0 a0).bind fun r3 =>
(zald 101 g m r3 (0 : Int32)).bind fun v4 =>
if v4 = (6 : Int32) then (some (((-1 : Int32), m)))
else ((zgr g m 2 0 a0).bind fun r5 =>
(zald 101 g m r5 (0 : Int32)).bind fun v6 =>
(zgr g m 2 0 a0).bind fun r7 =>
(zast 101 g m r7 ((23 : Int32) + v6) a1).bind fun m8 =>
(zgr g m8 2 0 a0).bind fun r9 =>
(zast 101 g m8 r9 ((29 : Int32) + v6) a2).bind fun m10 =>
(zrc g 2 a0 (f_X2_begin g m10 a0 v6)).bind fun m11 =>
(zgr g m11 2 0 a0).bind fun r12 =>
(zald 101 g m11 r12 (0 : Int32)).bind fun v13 =>
(zast 101 g m11 r12 (0 : Int32) (v13 + (1 : Int32))).bind fun m14 =>
some ((v6, m14)))))
theorem hy_X2_kin : zHy yX2_kin 2 := ⟨by decide, by decide, by decide +kernel⟩
set_option maxHeartbeats 4000000 in
theorem ok_X2_kin (l : Launch) (g : zGd) (m : zMm) (a0 : Option Nat) (a1 : Int32) (a2 : Int32) (z0 : Int32) (m0 : zMm) (h : f_X2_kin g m a0 a1 a2 = some (z0, m0)) : zCT l yX2_kin cX2_kin 4 (some .int) 2 42 g m [va_rf a0, .int a1, .int a2] (some (.int z0)) g m0 := by
  refine zCT.of (own := "QuiverKinModel") (mn := "kin") (by decide +kernel) rfl rfl (zla_r (zla_i (zla_i zla_0))) (zls_r (zls_i (zls_i zls_0))) (by decide) (fun X hxl hxg hxf hxt hxr hxn => ?_)
  have Kret : ∀ (y0 : Int32) (y1 : zMm), (y0, y1) = (z0, m0) → zRe X g y1 (some (.int y0)) := by
    intro y0 y1 e; cases e; exact ⟨hxf, hxr, hxn⟩
  subst hxl
  show zG X cX2_kin 4 "QuiverKinModel" "kin" 2 42 0 [(0, va_rf a0), (1, .int a1), (2, .int a2)] [] g m
  unfold f_X2_kin at h
  refine g_iload_n dX2_kin_0 1 rfl ?_
  refine g_iconst (v := (0 : Int32)) dX2_kin_1 (by decide) ?_
  refine g_bipush (v := (9 : Int32)) dX2_kin_2 (by decide) ?_
  refine g_cSRv (rv := fun x : Int32 => Value.int x) [.int a1, .int (0 : Int32), .int (9 : Int32)] (fun x0 e0 => ok_X2_isIn (xl X) g m a1 (0 : Int32) (9 : Int32) x0 e0) (lw_S q1534 q1535 q126 q1536) hy_X2_isIn rfl ⟨by decide, by decide⟩ rfl zc_0 (by decide) dX2_kin_4 h (fun v1 h => ?_)
  refine g_if_eq 31 dX2_kin_7 (by decide) (fun c => ?_) (fun c => ?_)
  · have h := zite_p h c
    refine g_iconst (v := (-1 : Int32)) dX2_kin_31 (by decide) ?_
    refine g_iret dX2_kin_32 hxt ?_
    have e := Option.some.inj h
    exact Kret _ _ e
  · have h := zite_n h c
    refine g_iload_n dX2_kin_10 2 rfl ?_
    refine g_iconst (v := (0 : Int32)) dX2_kin_11 (by decide) ?_
    refine g_bipush (v := (99 : Int32)) dX2_kin_12 (by decide) ?_
    refine g_cSRv (rv := fun x : Int32 => Value.int x) [.int a2, .int (0 : Int32), .int (99 : Int32)] (fun x0 e0 => ok_X2_isIn (xl X) g m a2 (0 : Int32) (99 : Int32) x0 e0) (lw_S q1534 q1535 q126 q1536) hy_X2_isIn rfl ⟨by decide, by decide⟩ rfl zc_0 (by decide) dX2_kin_14 h (fun v2 h => ?_)
    refine g_if_eq 31 dX2_kin_17 (by decide) (fun c => ?_) (fun c => ?_)
    · have h := zite_p h c
      refine g_iconst (v := (-1 : Int32)) dX2_kin_31 (by decide) ?_
      refine g_iret dX2_kin_32 hxt ?_
      have e := Option.some.inj h
      exact Kret _ _ e
    · have h := zite_n h c
      refine g_aload_n dX2_kin_20 0 rfl ?_
      refine gf_r zfd_2_0 q1410  (fun _ h9 => h9) dX2_kin_21 h (fun r3 h => ?_)
      refine g_iconst (v := (0 : Int32)) dX2_kin_24 (by decide) ?_
      refine g_iald dX2_kin_25 h (fun v4 h => ?_)
      refine g_bipush (v := (6 : Int32)) dX2_kin_26 (by decide) ?_
      refine g_icmp_ne 33 dX2_kin_28 (by decide) (fun c => ?_) (fun c => ?_)
      · have h := zite_n h c
        refine g_aload_n dX2_kin_33 0 rfl ?_
        refine gf_r zfd_2_0 q1410  (fun _ h9 => h9) dX2_kin_34 h (fun r5 h => ?_)
        refine g_iconst (v := (0 : Int32)) dX2_kin_37 (by decide) ?_
        refine g_iald dX2_kin_38 h (fun v6 h => ?_)
        refine g_istore_n [(3, .int v6), (0, va_rf a0), (1, .int a1), (2, .int a2)] dX2_kin_39 (by decide) (zf_r (zf_i (zf_i zf_0))) rfl ?_
        refine g_aload_n dX2_kin_40 1 rfl ?_
        refine gf_r zfd_2_0 q1410  (fun _ h9 => h9) dX2_kin_41 h (fun r7 h => ?_)
        refine g_bipush (v := (23 : Int32)) dX2_kin_44 (by decide) ?_
        refine g_iload_n dX2_kin_46 0 rfl ?_
        refine g_iadd dX2_kin_47 ?_
        refine g_iload_n dX2_kin_48 2 rfl ?_
        refine g_iast dX2_kin_49 h (fun m8 h => ?_)
        refine g_aload_n dX2_kin_50 1 rfl ?_
        refine gf_r zfd_2_0 q1410  (fun _ h9 => h9) dX2_kin_51 h (fun r9 h => ?_)
        refine g_bipush (v := (29 : Int32)) dX2_kin_54 (by decide) ?_
        refine g_iload_n dX2_kin_56 0 rfl ?_
        refine g_iadd dX2_kin_57 ?_
        refine g_iload_n dX2_kin_58 3 rfl ?_
        refine g_iast dX2_kin_59 h (fun m10 h => ?_)
        refine g_aload_n dX2_kin_60 1 rfl ?_
        refine g_iload_n dX2_kin_61 0 rfl ?_
        refine g_cVMn [.int v6] (fun m0 e0 => ok_X2_begin (xl X) g m10 a0 v6 m0 e0) zc2 (by decide) (lw_V q1537 q1539 qs54 q126 q1540) rfl hy_X2_begin rfl ⟨by decide, by decide⟩ rfl zc_0 (by decide) dX2_kin_62 h (fun m11 h => ?_)
        refine g_aload_n dX2_kin_65 1 rfl ?_
        refine gf_r zfd_2_0 q1410  (fun _ h9 => h9) dX2_kin_66 h (fun r12 h => ?_)
        refine g_iconst (v := (0 : Int32)) dX2_kin_69 (by decide) ?_
        refine g_dup2 dX2_kin_70 rfl (zcat_r _) ?_
        refine g_iald dX2_kin_71 h (fun v13 h => ?_)
        refine g_iconst (v := (1 : Int32)) dX2_kin_72 (by decide) ?_
        refine g_iadd dX2_kin_73 ?_
        refine g_iast dX2_kin_74 h (fun m14 h => ?_)
        refine g_iload_n dX2_kin_75 0 rfl ?_
        refine g_iret dX2_kin_76 hxt ?_
        have e := Option.some.inj h
        exact Kret _ _ e
      · have h := zite_p h c
        refine g_iconst (v := (-1 : Int32)) dX2_kin_31 (by decide) ?_
        refine g_iret dX2_kin_32 hxt ?_
        have e := Option.some.inj h
        exact Kret _ _ e
/-! QuiverKinModel.isKin -/
def f_X2_isKin (g : zGd) (m : zMm) (a0 : Option Nat) (a1 : Int32) : Option (Int32) :=
(zgr g m 2 0 a0).bind fun r1 =>
(zald 101 g m r1 (0 : Int32)).bind fun v2 =>
(f_X2_isIn a1 (0 : Int32) (v2 - (1 : Int32))).bind fun v3 =>
(zbo v3).bind fun z =>
some (z)
theorem hy_X2_isKin : zHy yX2_isKin 1 := ⟨by decide, by decide, by decide +kernel⟩
set_option maxHeartbeats 4000000 in
theorem ok_X2_isKin (l : Launch) (g : zGd) (m : zMm) (a0 : Option Nat) (a1 : Int32) (z0 : Int32) (h : f_X2_isKin g m a0 a1 = some z0) : zCT l yX2_isKin cX2_isKin 2 (some .boolean) 2 42 g m [va_rf a0, .int a1] (some (.int z0)) g m := by
  refine zCT.of (own := "QuiverKinModel") (mn := "isKin") (by decide +kernel) rfl rfl (zla_r (zla_i zla_0)) (zls_r (zls_i zls_0)) (by decide) (fun X hxl hxg hxf hxt hxr hxn => ?_)
  have Kret : ∀ (y0 : Int32), y0 = z0 → zRe X g m (some (.int y0)) := by
    intro y0 e; cases e; exact ⟨hxf, hxr, hxn⟩
  subst hxl
  show zG X cX2_isKin 2 "QuiverKinModel" "isKin" 2 42 0 [(0, va_rf a0), (1, .int a1)] [] g m
  unfold f_X2_isKin at h
  refine g_iload_n dX2_isKin_0 1 rfl ?_
  refine g_iconst (v := (0 : Int32)) dX2_isKin_1 (by decide) ?_
  refine g_aload_n dX2_isKin_2 0 rfl ?_
  refine gf_r zfd_2_0 q1410  (fun _ h9 => h9) dX2_isKin_3 h (fun r1 h => ?_)
  refine g_iconst (v := (0 : Int32)) dX2_isKin_6 (by decide) ?_
  refine g_iald dX2_isKin_7 h (fun v2 h => ?_)
  refine g_iconst (v := (1 : Int32)) dX2_isKin_8 (by decide) ?_
  refine g_isub dX2_isKin_9 ?_
  refine g_cSRv (rv := fun x : Int32 => Value.int x) [.int a1, .int (0 : Int32), .int (v2 - (1 : Int32))] (fun x0 e0 => ok_X2_isIn (xl X) g m a1 (0 : Int32) (v2 - (1 : Int32)) x0 e0) (lw_S q1534 q1535 q126 q1536) hy_X2_isIn rfl ⟨by decide, by decide⟩ rfl zc_0 (by decide) dX2_isKin_10 h (fun v3 h => ?_)
  obtain ⟨hn, h⟩ := zbo_e h
  refine g_zret dX2_isKin_13 hxt hn ?_
  have e := Option.some.inj h
  exact Kret _ e
/-! QuiverKinModel.spite -/
def f_X2_spite (g : zGd) (m : zMm) (a0 : Option Nat) (a1 : Int32) (a2 : Int32) (a3 : Int32) : Option (Int32 × zMm) :=
(zrc g 2 a0 (f_X2_isKin g m a0 a1)).bind fun v1 =>
if v1 = 0 then (some (((0 : Int32), m)))
else ((zrc g 2 a0 (f_X2_isKin g m a0 a2)).bind fun v2 =>
if v2 = 0 then (some (((0 : Int32), m)))
else (if a1 = a2 then (some (((0 : Int32), m)))
else ((f_X2_isIn a3 (0 : Int32) (99 : Int32)).bind fun v3 =>
if v3 = 0 then (some (((0 : Int32), m)))
else ((zgr g m 2 0 a0).bind fun r4 =>
(zast 101 g m r4 (((35 : Int32) + ((6 : Int32) * a1)) + a2) a3).bind fun m5 =>
(zgr g m5 2 0 a0).bind fun r6 =>
(zast 101 g m5 r6 (((35 : Int32) + ((6 : Int32) * a2)) + a1) a3).bind fun m7 =>
some (((1 : Int32), m7))))))
theorem hy_X2_spite : zHy yX2_spite 3 := ⟨by decide, by decide, by decide +kernel⟩
set_option maxHeartbeats 4000000 in
theorem ok_X2_spite (l : Launch) (g : zGd) (m : zMm) (a0 : Option Nat) (a1 : Int32) (a2 : Int32) (a3 : Int32) (z0 : Int32) (m0 : zMm) (h : f_X2_spite g m a0 a1 a2 a3 = some (z0, m0)) : zCT l yX2_spite cX2_spite 4 (some .boolean) 3 63 g m [va_rf a0, .int a1, .int a2, .int a3] (some (.int z0)) g m0 := by
  refine zCT.of (own := "QuiverKinModel") (mn := "spite") (by decide +kernel) rfl rfl (zla_r (zla_i (zla_i (zla_i zla_0)))) (zls_r (zls_i (zls_i (zls_i zls_0)))) (by decide) (fun X hxl hxg hxf hxt hxr hxn => ?_)
  have Kret : ∀ (y0 : Int32) (y1 : zMm), (y0, y1) = (z0, m0) → zRe X g y1 (some (.int y0)) := by
    intro y0 y1 e; cases e; exact ⟨hxf, hxr, hxn⟩
  subst hxl
  show zG X cX2_spite 4 "QuiverKinModel" "spite" 3 63 0 [(0, va_rf a0), (1, .int a1), (2, .int a2), (3, .int a3)] [] g m
  unfold f_X2_spite at h
  refine g_aload_n dX2_spite_0 0 rfl ?_
  refine g_iload_n dX2_spite_1 1 rfl ?_
  refine g_cVRv (rv := fun x : Int32 => Value.int x) [.int a1] (fun x0 e0 => ok_X2_isKin (xl X) g m a0 a1 x0 e0) zc2 (by decide) (lw_V q1545 q1547 qs55 q126 q1548) rfl hy_X2_isKin rfl ⟨by decide, by decide⟩ rfl zc_0 (by decide) dX2_spite_2 h (fun v1 h => ?_)
  refine g_if_eq 31 dX2_spite_5 (by decide) (fun c => ?_) (fun c => ?_)
  · have h := zite_p h c
    refine g_iconst (v := (0 : Int32)) dX2_spite_31 (by decide) ?_
    refine g_zret dX2_spite_32 hxt rfl ?_
    have e := Option.some.inj h
    exact Kret _ _ e
  · have h := zite_n h c
    refine g_aload_n dX2_spite_8 0 rfl ?_
    refine g_iload_n dX2_spite_9 2 rfl ?_
    refine g_cVRv (rv := fun x : Int32 => Value.int x) [.int a2] (fun x0 e0 => ok_X2_isKin (xl X) g m a0 a2 x0 e0) zc2 (by decide) (lw_V q1545 q1547 qs55 q126 q1548) rfl hy_X2_isKin rfl ⟨by decide, by decide⟩ rfl zc_0 (by decide) dX2_spite_10 h (fun v2 h => ?_)
    refine g_if_eq 31 dX2_spite_13 (by decide) (fun c => ?_) (fun c => ?_)
    · have h := zite_p h c
      refine g_iconst (v := (0 : Int32)) dX2_spite_31 (by decide) ?_
      refine g_zret dX2_spite_32 hxt rfl ?_
      have e := Option.some.inj h
      exact Kret _ _ e
    · have h := zite_n h c
      refine g_iload_n dX2_spite_16 1 rfl ?_
      refine g_iload_n dX2_spite_17 2 rfl ?_
      refine g_icmp_eq 31 dX2_spite_18 (by decide) (fun c => ?_) (fun c => ?_)
      · have h := zite_p h c
        refine g_iconst (v := (0 : Int32)) dX2_spite_31 (by decide) ?_
        refine g_zret dX2_spite_32 hxt rfl ?_
        have e := Option.some.inj h
        exact Kret _ _ e
      · have h := zite_n h c
        refine g_iload_n dX2_spite_21 3 rfl ?_
        refine g_iconst (v := (0 : Int32)) dX2_spite_22 (by decide) ?_
        refine g_bipush (v := (99 : Int32)) dX2_spite_23 (by decide) ?_
        refine g_cSRv (rv := fun x : Int32 => Value.int x) [.int a3, .int (0 : Int32), .int (99 : Int32)] (fun x0 e0 => ok_X2_isIn (xl X) g m a3 (0 : Int32) (99 : Int32) x0 e0) (lw_S q1534 q1535 q126 q1536) hy_X2_isIn rfl ⟨by decide, by decide⟩ rfl zc_0 (by decide) dX2_spite_25 h (fun v3 h => ?_)
        refine g_if_ne 33 dX2_spite_28 (by decide) (fun c => ?_) (fun c => ?_)
        · have h := zite_n h c
          refine g_aload_n dX2_spite_33 0 rfl ?_
          refine gf_r zfd_2_0 q1410  (fun _ h9 => h9) dX2_spite_34 h (fun r4 h => ?_)
          refine g_bipush (v := (35 : Int32)) dX2_spite_37 (by decide) ?_
          refine g_bipush (v := (6 : Int32)) dX2_spite_39 (by decide) ?_
          refine g_iload_n dX2_spite_41 1 rfl ?_
          refine g_imul dX2_spite_42 ?_
          refine g_iadd dX2_spite_43 ?_
          refine g_iload_n dX2_spite_44 2 rfl ?_
          refine g_iadd dX2_spite_45 ?_
          refine g_iload_n dX2_spite_46 3 rfl ?_
          refine g_iast dX2_spite_47 h (fun m5 h => ?_)
          refine g_aload_n dX2_spite_48 0 rfl ?_
          refine gf_r zfd_2_0 q1410  (fun _ h9 => h9) dX2_spite_49 h (fun r6 h => ?_)
          refine g_bipush (v := (35 : Int32)) dX2_spite_52 (by decide) ?_
          refine g_bipush (v := (6 : Int32)) dX2_spite_54 (by decide) ?_
          refine g_iload_n dX2_spite_56 2 rfl ?_
          refine g_imul dX2_spite_57 ?_
          refine g_iadd dX2_spite_58 ?_
          refine g_iload_n dX2_spite_59 1 rfl ?_
          refine g_iadd dX2_spite_60 ?_
          refine g_iload_n dX2_spite_61 3 rfl ?_
          refine g_iast dX2_spite_62 h (fun m7 h => ?_)
          refine g_iconst (v := (1 : Int32)) dX2_spite_63 (by decide) ?_
          refine g_zret dX2_spite_64 hxt rfl ?_
          have e := Option.some.inj h
          exact Kret _ _ e
        · have h := zite_p h c
          refine g_iconst (v := (0 : Int32)) dX2_spite_31 (by decide) ?_
          refine g_zret dX2_spite_32 hxt rfl ?_
          have e := Option.some.inj h
          exact Kret _ _ e
/-! QuiverKinModel.four -/
def b_X2_four_3 (g : zGd) (a0 : Option Nat) (a1 : Int32) : Int32 × zMm → Option ((zMm) ⊕ (Int32 × zMm)) := fun (v4, m5) =>
if v4 < 0 then (some (.inl m5))
else ((zgr g m5 2 3 a0).bind fun r6 =>
(zgi g m5 2 4 a0).bind fun v7 =>
(zast 101 g m5 r6 v7 ((zshr a1 v4) &&& (255 : Int32))).bind fun m8 =>
(zgi g m8 2 4 a0).bind fun v9 =>
(zpi g m8 2 4 a0 (v9 + (1 : Int32))).bind fun m10 =>
zlt (v4 + (-8 : Int32)) fun v11 =>
some (.inr (v11, m10)))
def f_X2_four (g : zGd) (m : zMm) (a0 : Option Nat) (a1 : Int32) : Option (zMm) :=
(zLoop (b_X2_four_3 g a0 a1) zFuel ((24 : Int32), m)).bind fun m2 =>
some (m2)
theorem hy_X2_four : zHy yX2_four 1 := ⟨by decide, by decide, by decide +kernel⟩
set_option maxHeartbeats 4000000 in
theorem ok_X2_four (l : Launch) (g : zGd) (m : zMm) (a0 : Option Nat) (a1 : Int32) (m0 : zMm) (h : f_X2_four g m a0 a1 = some m0) : zCT l yX2_four cX2_four 3 none 1 20 g m [va_rf a0, .int a1] none g m0 := by
  refine zCT.of (own := "QuiverKinModel") (mn := "four") (by decide +kernel) rfl rfl (zla_r (zla_i zla_0)) (zls_r (zls_i zls_0)) (by decide) (fun X hxl hxg hxf hxt hxr hxn => ?_)
  have Kret : ∀ (y0 : zMm), y0 = m0 → zRe X g y0 none := by
    intro y0 e; cases e; exact ⟨hxf, hxr, hxn⟩
  subst hxl
  show zG X cX2_four 3 "QuiverKinModel" "four" 1 20 0 [(0, va_rf a0), (1, .int a1)] [] g m
  unfold f_X2_four at h
  refine g_bipush (v := (24 : Int32)) dX2_four_0 (by decide) ?_
  refine g_istore_n [(2, .int (24 : Int32)), (0, va_rf a0), (1, .int a1)] dX2_four_2 (by decide) (zf_r (zf_i zf_0)) rfl ?_
  obtain ⟨o1, h1, h2⟩ := zB_e h
  have K1 : ∀ (m2 : zMm), o1 = m2 → zG X cX2_four 3 "QuiverKinModel" "four" 1 20 39 [] [] g m2 := by
    intro m2 e
    rw [e] at h2
    have h := h2
    refine g_vret dX2_four_39 hxt ?_
    have e := Option.some.inj h
    exact Kret _ e
  refine zG.sub [1, 2, 0] rfl ?_
  refine zLoop_ok (Φ := (fun (q : Int32 × zMm) => match q with | (v4, m5) => zG X cX2_four 3 "QuiverKinModel" "four" 1 20 3 [(0, va_rf a0), (1, .int a1), (2, .int v4)] [] g m5)) o1 ?_ zFuel _ h1
  rintro ⟨v4, m5⟩ x3 h hl3 hr3
  unfold b_X2_four_3 at h
  have K3 : ∀ (v4 : Int32) (m5 : zMm), x3 = .inr (v4, m5) → zG X cX2_four 3 "QuiverKinModel" "four" 1 20 3 [(0, va_rf a0), (1, .int a1), (2, .int v4)] [] g m5 := by
    intro v4 m5 e
    exact hr3 _ e
  show zG X cX2_four 3 "QuiverKinModel" "four" 1 20 3 [(0, va_rf a0), (1, .int a1), (2, .int v4)] [] g m5
  refine g_iload_n dX2_four_3 2 rfl ?_
  refine g_if_lt 39 dX2_four_4 (by decide) (fun c => ?_) (fun c => ?_)
  · have h := zite_p h c
    refine zG.sub [] rfl ?_
    have e := Option.some.inj h
    have e := hl3 _ e.symm
    exact K1 _ e.symm
  · have h := zite_n h c
    refine g_aload_n dX2_four_7 0 rfl ?_
    refine gf_r zfd_2_3 q1413  (fun _ h9 => h9) dX2_four_8 h (fun r6 h => ?_)
    refine g_aload_n dX2_four_11 0 rfl ?_
    refine gf_i zfd_2_4 q1414  (fun _ h9 => h9) dX2_four_12 h (fun v7 h => ?_)
    refine g_iload_n dX2_four_15 1 rfl ?_
    refine g_iload_n dX2_four_16 2 rfl ?_
    refine g_ishr dX2_four_17 ?_
    refine g_sipush (v := (255 : Int32)) dX2_four_18 (by decide) ?_
    refine g_iand dX2_four_21 ?_
    refine g_iast dX2_four_22 h (fun m8 h => ?_)
    refine g_aload_n dX2_four_23 0 rfl ?_
    refine g_dup dX2_four_24 (zcat_r _) ?_
    refine gf_i zfd_2_4 q1414  (fun _ h9 => h9) dX2_four_25 h (fun v9 h => ?_)
    refine g_iconst (v := (1 : Int32)) dX2_four_28 (by decide) ?_
    refine g_iadd dX2_four_29 ?_
    refine gp_i zpd_2_4 q1414 (fun _ h9 => h9) dX2_four_30 h (fun m10 h => ?_)
    refine g_iinc (v := (-8 : Int32)) [(0, va_rf a0), (1, .int a1)] dX2_four_33 2 rfl (by decide) (by decide) (zf_r (zf_i (zf_i zf_0))) rfl h (fun v11 h => ?_)
    refine g_goto 3 dX2_four_36 (by decide) ?_
    refine zG.sub [1, 2, 0] rfl ?_
    have e := Option.some.inj h
    exact K3 _ _ e.symm
/-! QuiverKinModel.feed -/
def f_X2_feed (g : zGd) (m : zMm) (a0 : Option Nat) (a1 : Int32) (a2 : Int32) (a3 : Int32) (a4 : Int32) (a5 : Int32) : Option (Int32 × zMm) :=
(zgi g m 2 4 a0).bind fun v1 =>
if (v1 + (20 : Int32)) ≤ (300 : Int32) then ((zrc g 2 a0 (f_X2_four g m a0 a1)).bind fun m2 =>
(zrc g 2 a0 (f_X2_four g m2 a0 a2)).bind fun m3 =>
(zrc g 2 a0 (f_X2_four g m3 a0 a3)).bind fun m4 =>
(zrc g 2 a0 (f_X2_four g m4 a0 a4)).bind fun m5 =>
(zrc g 2 a0 (f_X2_four g m5 a0 a5)).bind fun m6 =>
(zgi g m6 2 4 a0).bind fun v7 =>
some ((v7, m6)))
else (some (((-1 : Int32), m)))
theorem hy_X2_feed : zHy yX2_feed 5 := ⟨by decide, by decide, by decide +kernel⟩
set_option maxHeartbeats 4000000 in
theorem ok_X2_feed (l : Launch) (g : zGd) (m : zMm) (a0 : Option Nat) (a1 : Int32) (a2 : Int32) (a3 : Int32) (a4 : Int32) (a5 : Int32) (z0 : Int32) (m0 : zMm) (h : f_X2_feed g m a0 a1 a2 a3 a4 a5 = some (z0, m0)) : zCT l yX2_feed cX2_feed 6 (some .int) 2 42 g m [va_rf a0, .int a1, .int a2, .int a3, .int a4, .int a5] (some (.int z0)) g m0 := by
  refine zCT.of (own := "QuiverKinModel") (mn := "feed") (by decide +kernel) rfl rfl (zla_r (zla_i (zla_i (zla_i (zla_i (zla_i zla_0)))))) (zls_r (zls_i (zls_i (zls_i (zls_i (zls_i zls_0)))))) (by decide) (fun X hxl hxg hxf hxt hxr hxn => ?_)
  have Kret : ∀ (y0 : Int32) (y1 : zMm), (y0, y1) = (z0, m0) → zRe X g y1 (some (.int y0)) := by
    intro y0 y1 e; cases e; exact ⟨hxf, hxr, hxn⟩
  subst hxl
  show zG X cX2_feed 6 "QuiverKinModel" "feed" 2 42 0 [(0, va_rf a0), (1, .int a1), (2, .int a2), (3, .int a3), (4, .int a4), (5, .int a5)] [] g m
  unfold f_X2_feed at h
  refine g_aload_n dX2_feed_0 0 rfl ?_
  refine gf_i zfd_2_4 q1414  (fun _ h9 => h9) dX2_feed_1 h (fun v1 h => ?_)
  refine g_bipush (v := (20 : Int32)) dX2_feed_4 (by decide) ?_
  refine g_iadd dX2_feed_6 ?_
  refine g_sipush (v := (300 : Int32)) dX2_feed_7 (by decide) ?_
  refine g_icmp_le 15 dX2_feed_10 (by decide) (fun c => ?_) (fun c => ?_)
  · have h := zite_p h c
    refine g_aload_n dX2_feed_15 0 rfl ?_
    refine g_iload_n dX2_feed_16 1 rfl ?_
    refine g_cVMn [.int a1] (fun m0 e0 => ok_X2_four (xl X) g m a0 a1 m0 e0) zc2 (by decide) (lw_V q1553 q1555 qs56 q126 q1556) rfl hy_X2_four rfl ⟨by decide, by decide⟩ rfl zc_0 (by decide) dX2_feed_17 h (fun m2 h => ?_)
    refine g_aload_n dX2_feed_20 0 rfl ?_
    refine g_iload_n dX2_feed_21 2 rfl ?_
    refine g_cVMn [.int a2] (fun m0 e0 => ok_X2_four (xl X) g m2 a0 a2 m0 e0) zc2 (by decide) (lw_V q1553 q1555 qs56 q126 q1556) rfl hy_X2_four rfl ⟨by decide, by decide⟩ rfl zc_0 (by decide) dX2_feed_22 h (fun m3 h => ?_)
    refine g_aload_n dX2_feed_25 0 rfl ?_
    refine g_iload_n dX2_feed_26 3 rfl ?_
    refine g_cVMn [.int a3] (fun m0 e0 => ok_X2_four (xl X) g m3 a0 a3 m0 e0) zc2 (by decide) (lw_V q1553 q1555 qs56 q126 q1556) rfl hy_X2_four rfl ⟨by decide, by decide⟩ rfl zc_0 (by decide) dX2_feed_27 h (fun m4 h => ?_)
    refine g_aload_n dX2_feed_30 0 rfl ?_
    refine g_iload dX2_feed_31 4 rfl ?_
    refine g_cVMn [.int a4] (fun m0 e0 => ok_X2_four (xl X) g m4 a0 a4 m0 e0) zc2 (by decide) (lw_V q1553 q1555 qs56 q126 q1556) rfl hy_X2_four rfl ⟨by decide, by decide⟩ rfl zc_0 (by decide) dX2_feed_33 h (fun m5 h => ?_)
    refine g_aload_n dX2_feed_36 0 rfl ?_
    refine g_iload dX2_feed_37 5 rfl ?_
    refine g_cVMn [.int a5] (fun m0 e0 => ok_X2_four (xl X) g m5 a0 a5 m0 e0) zc2 (by decide) (lw_V q1553 q1555 qs56 q126 q1556) rfl hy_X2_four rfl ⟨by decide, by decide⟩ rfl zc_0 (by decide) dX2_feed_39 h (fun m6 h => ?_)
    refine g_aload_n dX2_feed_42 0 rfl ?_
    refine gf_i zfd_2_4 q1414  (fun _ h9 => h9) dX2_feed_43 h (fun v7 h => ?_)
    refine g_iret dX2_feed_46 hxt ?_
    have e := Option.some.inj h
    exact Kret _ _ e
  · have h := zite_n h c
    refine g_iconst (v := (-1 : Int32)) dX2_feed_13 (by decide) ?_
    refine g_iret dX2_feed_14 hxt ?_
    have e := Option.some.inj h
    exact Kret _ _ e
/-! QuiverKinModel.end -/
def f_X2_end (g : zGd) (m : zMm) (a0 : Option Nat) (a1 : Int32) : Option (Int32 × zMm) :=
(zgi g m 2 4 a0).bind fun v1 =>
(f_X2_isIn a1 (0 : Int32) v1).bind fun v2 =>
if v2 = 0 then (some (((-1 : Int32), m)))
else ((zpi g m 2 4 a0 a1).bind fun m3 =>
some ((a1, m3)))
theorem hy_X2_end : zHy yX2_end 1 := ⟨by decide, by decide, by decide +kernel⟩
set_option maxHeartbeats 4000000 in
theorem ok_X2_end (l : Launch) (g : zGd) (m : zMm) (a0 : Option Nat) (a1 : Int32) (z0 : Int32) (m0 : zMm) (h : f_X2_end g m a0 a1 = some (z0, m0)) : zCT l yX2_end cX2_end 2 (some .int) 2 42 g m [va_rf a0, .int a1] (some (.int z0)) g m0 := by
  refine zCT.of (own := "QuiverKinModel") (mn := "end") (by decide +kernel) rfl rfl (zla_r (zla_i zla_0)) (zls_r (zls_i zls_0)) (by decide) (fun X hxl hxg hxf hxt hxr hxn => ?_)
  have Kret : ∀ (y0 : Int32) (y1 : zMm), (y0, y1) = (z0, m0) → zRe X g y1 (some (.int y0)) := by
    intro y0 y1 e; cases e; exact ⟨hxf, hxr, hxn⟩
  subst hxl
  show zG X cX2_end 2 "QuiverKinModel" "end" 2 42 0 [(0, va_rf a0), (1, .int a1)] [] g m
  unfold f_X2_end at h
  refine g_iload_n dX2_end_0 1 rfl ?_
  refine g_iconst (v := (0 : Int32)) dX2_end_1 (by decide) ?_
  refine g_aload_n dX2_end_2 0 rfl ?_
  refine gf_i zfd_2_4 q1414  (fun _ h9 => h9) dX2_end_3 h (fun v1 h => ?_)
  refine g_cSRv (rv := fun x : Int32 => Value.int x) [.int a1, .int (0 : Int32), .int v1] (fun x0 e0 => ok_X2_isIn (xl X) g m a1 (0 : Int32) v1 x0 e0) (lw_S q1534 q1535 q126 q1536) hy_X2_isIn rfl ⟨by decide, by decide⟩ rfl zc_0 (by decide) dX2_end_6 h (fun v2 h => ?_)
  refine g_if_ne 14 dX2_end_9 (by decide) (fun c => ?_) (fun c => ?_)
  · have h := zite_n h c
    refine g_aload_n dX2_end_14 0 rfl ?_
    refine g_iload_n dX2_end_15 1 rfl ?_
    refine gp_i zpd_2_4 q1414 (fun _ h9 => h9) dX2_end_16 h (fun m3 h => ?_)
    refine g_iload_n dX2_end_19 1 rfl ?_
    refine g_iret dX2_end_20 hxt ?_
    have e := Option.some.inj h
    exact Kret _ _ e
  · have h := zite_p h c
    refine g_iconst (v := (-1 : Int32)) dX2_end_12 (by decide) ?_
    refine g_iret dX2_end_13 hxt ?_
    have e := Option.some.inj h
    exact Kret _ _ e
/-! QuiverKinModel.byteAt -/
def f_X2_byteAt (g : zGd) (m : zMm) (a0 : Option Nat) (a1 : Int32) : Option (Int32) :=
(zgi g m 2 4 a0).bind fun v1 =>
if v1 ≤ a1 then (some ((-1 : Int32)))
else ((zgr g m 2 3 a0).bind fun r2 =>
(zald 101 g m r2 a1).bind fun v3 =>
some (v3))
theorem hy_X2_byteAt : zHy yX2_byteAt 1 := ⟨by decide, by decide, by decide +kernel⟩
set_option maxHeartbeats 4000000 in
theorem ok_X2_byteAt (l : Launch) (g : zGd) (m : zMm) (a0 : Option Nat) (a1 : Int32) (z0 : Int32) (h : f_X2_byteAt g m a0 a1 = some z0) : zCT l yX2_byteAt cX2_byteAt 2 (some .int) 1 20 g m [va_rf a0, .int a1] (some (.int z0)) g m := by
  refine zCT.of (own := "QuiverKinModel") (mn := "byteAt") (by decide +kernel) rfl rfl (zla_r (zla_i zla_0)) (zls_r (zls_i zls_0)) (by decide) (fun X hxl hxg hxf hxt hxr hxn => ?_)
  have Kret : ∀ (y0 : Int32), y0 = z0 → zRe X g m (some (.int y0)) := by
    intro y0 e; cases e; exact ⟨hxf, hxr, hxn⟩
  subst hxl
  show zG X cX2_byteAt 2 "QuiverKinModel" "byteAt" 1 20 0 [(0, va_rf a0), (1, .int a1)] [] g m
  unfold f_X2_byteAt at h
  refine g_iload_n dX2_byteAt_0 1 rfl ?_
  refine g_aload_n dX2_byteAt_1 0 rfl ?_
  refine gf_i zfd_2_4 q1414  (fun _ h9 => h9) dX2_byteAt_2 h (fun v1 h => ?_)
  refine g_icmp_ge 17 dX2_byteAt_5 (by decide) (fun c => ?_) (fun c => ?_)
  · have h := zite_p h c
    refine g_iconst (v := (-1 : Int32)) dX2_byteAt_17 (by decide) ?_
    refine g_iret dX2_byteAt_18 hxt ?_
    have e := Option.some.inj h
    exact Kret _ e
  · have h := zite_n h c
    refine g_aload_n dX2_byteAt_8 0 rfl ?_
    refine gf_r zfd_2_3 q1413  (fun _ h9 => h9) dX2_byteAt_9 h (fun r2 h => ?_)
    refine g_iload_n dX2_byteAt_12 1 rfl ?_
    refine g_iald dX2_byteAt_13 h (fun v3 h => ?_)
    refine g_goto 18 dX2_byteAt_14 (by decide) ?_
    refine g_iret dX2_byteAt_18 hxt ?_
    have e := Option.some.inj h
    exact Kret _ e
/-! QuiverKinModel.isFigure -/
def f_X2_isFigure (a0 : Int32) : Option (Int32) :=
if a0 < (48 : Int32) then (some ((0 : Int32)))
else (if (57 : Int32) < a0 then (some ((0 : Int32)))
else (some ((1 : Int32))))
theorem hy_X2_isFigure : zHy yX2_isFigure 1 := ⟨by decide, by decide, by decide +kernel⟩
set_option maxHeartbeats 4000000 in
theorem ok_X2_isFigure (l : Launch) (g : zGd) (m : zMm) (a0 : Int32) (z0 : Int32) (h : f_X2_isFigure a0 = some z0) : zCT l yX2_isFigure cX2_isFigure 1 (some .boolean) 1 20 g m [.int a0] (some (.int z0)) g m := by
  refine zCT.of (own := "QuiverKinModel") (mn := "isFigure") (by decide +kernel) rfl rfl (zla_i zla_0) (zls_i zls_0) (by decide) (fun X hxl hxg hxf hxt hxr hxn => ?_)
  have Kret : ∀ (y0 : Int32), y0 = z0 → zRe X g m (some (.int y0)) := by
    intro y0 e; cases e; exact ⟨hxf, hxr, hxn⟩
  subst hxl
  show zG X cX2_isFigure 1 "QuiverKinModel" "isFigure" 1 20 0 [(0, .int a0)] [] g m
  unfold f_X2_isFigure at h
  refine g_iload_n dX2_isFigure_0 0 rfl ?_
  refine g_bipush (v := (48 : Int32)) dX2_isFigure_1 (by decide) ?_
  refine g_icmp_lt 16 dX2_isFigure_3 (by decide) (fun c => ?_) (fun c => ?_)
  · have h := zite_p h c
    refine g_iconst (v := (0 : Int32)) dX2_isFigure_16 (by decide) ?_
    refine g_zret dX2_isFigure_17 hxt rfl ?_
    have e := Option.some.inj h
    exact Kret _ e
  · have h := zite_n h c
    refine g_iload_n dX2_isFigure_6 0 rfl ?_
    refine g_bipush (v := (57 : Int32)) dX2_isFigure_7 (by decide) ?_
    refine g_icmp_gt 16 dX2_isFigure_9 (by decide) (fun c => ?_) (fun c => ?_)
    · have h := zite_p h c
      refine g_iconst (v := (0 : Int32)) dX2_isFigure_16 (by decide) ?_
      refine g_zret dX2_isFigure_17 hxt rfl ?_
      have e := Option.some.inj h
      exact Kret _ e
    · have h := zite_n h c
      refine g_iconst (v := (1 : Int32)) dX2_isFigure_12 (by decide) ?_
      refine g_goto 17 dX2_isFigure_13 (by decide) ?_
      refine g_zret dX2_isFigure_17 hxt rfl ?_
      have e := Option.some.inj h
      exact Kret _ e
/-! QuiverKinModel.isLetterByte -/
def f_X2_isLetterByte (a0 : Int32) : Option (Int32) :=
zEx (σ := Unit) (if a0 < (97 : Int32) then (some (.inr ()))
else (if a0 ≤ (122 : Int32) then (some (.inl ((1 : Int32))))
else (some (.inr ())))) fun _ =>
if a0 < (65 : Int32) then (some ((0 : Int32)))
else (if (90 : Int32) < a0 then (some ((0 : Int32)))
else (some ((1 : Int32))))
theorem hy_X2_isLetterByte : zHy yX2_isLetterByte 1 := ⟨by decide, by decide, by decide +kernel⟩
set_option maxHeartbeats 4000000 in
theorem ok_X2_isLetterByte (l : Launch) (g : zGd) (m : zMm) (a0 : Int32) (z0 : Int32) (h : f_X2_isLetterByte a0 = some z0) : zCT l yX2_isLetterByte cX2_isLetterByte 1 (some .boolean) 1 20 g m [.int a0] (some (.int z0)) g m := by
  refine zCT.of (own := "QuiverKinModel") (mn := "isLetterByte") (by decide +kernel) rfl rfl (zla_i zla_0) (zls_i zls_0) (by decide) (fun X hxl hxg hxf hxt hxr hxn => ?_)
  have Kret : ∀ (y0 : Int32), y0 = z0 → zRe X g m (some (.int y0)) := by
    intro y0 e; cases e; exact ⟨hxf, hxr, hxn⟩
  subst hxl
  show zG X cX2_isLetterByte 1 "QuiverKinModel" "isLetterByte" 1 20 0 [(0, .int a0)] [] g m
  unfold f_X2_isLetterByte at h
  refine g_iload_n dX2_isLetterByte_0 0 rfl ?_
  refine g_bipush (v := (97 : Int32)) dX2_isLetterByte_1 (by decide) ?_
  obtain ⟨o1, h1, hl1, hr1⟩ := zEx_e h
  have K1 : o1 = .inr () → zG X cX2_isLetterByte 1 "QuiverKinModel" "isLetterByte" 1 20 12 [(0, .int a0)] [] g m := by
    intro e
    have h := hr1 _ e
    refine g_iload_n dX2_isLetterByte_12 0 rfl ?_
    refine g_bipush (v := (65 : Int32)) dX2_isLetterByte_13 (by decide) ?_
    refine g_icmp_lt 28 dX2_isLetterByte_15 (by decide) (fun c => ?_) (fun c => ?_)
    · have h := zite_p h c
      refine g_iconst (v := (0 : Int32)) dX2_isLetterByte_28 (by decide) ?_
      refine g_zret dX2_isLetterByte_29 hxt rfl ?_
      have e := Option.some.inj h
      exact Kret _ e
    · have h := zite_n h c
      refine g_iload_n dX2_isLetterByte_18 0 rfl ?_
      refine g_bipush (v := (90 : Int32)) dX2_isLetterByte_19 (by decide) ?_
      refine g_icmp_gt 28 dX2_isLetterByte_21 (by decide) (fun c => ?_) (fun c => ?_)
      · have h := zite_p h c
        refine g_iconst (v := (0 : Int32)) dX2_isLetterByte_28 (by decide) ?_
        refine g_zret dX2_isLetterByte_29 hxt rfl ?_
        have e := Option.some.inj h
        exact Kret _ e
      · have h := zite_n h c
        refine g_iconst (v := (1 : Int32)) dX2_isLetterByte_24 (by decide) ?_
        refine g_goto 29 dX2_isLetterByte_25 (by decide) ?_
        refine g_zret dX2_isLetterByte_29 hxt rfl ?_
        have e := Option.some.inj h
        exact Kret _ e
  have h := h1
  refine g_icmp_lt 12 dX2_isLetterByte_3 (by decide) (fun c => ?_) (fun c => ?_)
  · have h := zite_p h c
    refine zG.sub [0] rfl ?_
    have e := Option.some.inj h
    exact K1 e.symm
  · have h := zite_n h c
    refine g_iload_n dX2_isLetterByte_6 0 rfl ?_
    refine g_bipush (v := (122 : Int32)) dX2_isLetterByte_7 (by decide) ?_
    refine g_icmp_le 24 dX2_isLetterByte_9 (by decide) (fun c => ?_) (fun c => ?_)
    · have h := zite_p h c
      refine g_iconst (v := (1 : Int32)) dX2_isLetterByte_24 (by decide) ?_
      refine g_goto 29 dX2_isLetterByte_25 (by decide) ?_
      refine g_zret dX2_isLetterByte_29 hxt rfl ?_
      have e := Option.some.inj h
      have e := hl1 _ e.symm
      exact Kret _ e
    · have h := zite_n h c
      refine zG.sub [0] rfl ?_
      have e := Option.some.inj h
      exact K1 e.symm
/-! QuiverKinModel.isSign -/
def f_X2_isSign (a0 : Int32) : Option (Int32) :=
if a0 = (35 : Int32) then (some ((1 : Int32)))
else if a0 = (40 : Int32) then (some ((1 : Int32)))
else if a0 = (41 : Int32) then (some ((1 : Int32)))
else if a0 = (42 : Int32) then (some ((1 : Int32)))
else if a0 = (43 : Int32) then (some ((1 : Int32)))
else if a0 = (45 : Int32) then (some ((1 : Int32)))
else if a0 = (47 : Int32) then (some ((1 : Int32)))
else if a0 = (58 : Int32) then (some ((1 : Int32)))
else if a0 = (59 : Int32) then (some ((1 : Int32)))
else if a0 = (60 : Int32) then (some ((1 : Int32)))
else if a0 = (61 : Int32) then (some ((1 : Int32)))
else if a0 = (62 : Int32) then (some ((1 : Int32)))
else (some ((0 : Int32)))
theorem hy_X2_isSign : zHy yX2_isSign 1 := ⟨by decide, by decide, by decide +kernel⟩
set_option maxHeartbeats 4000000 in
theorem ok_X2_isSign (l : Launch) (g : zGd) (m : zMm) (a0 : Int32) (z0 : Int32) (h : f_X2_isSign a0 = some z0) : zCT l yX2_isSign cX2_isSign 1 (some .boolean) 1 20 g m [.int a0] (some (.int z0)) g m := by
  refine zCT.of (own := "QuiverKinModel") (mn := "isSign") (by decide +kernel) rfl rfl (zla_i zla_0) (zls_i zls_0) (by decide) (fun X hxl hxg hxf hxt hxr hxn => ?_)
  have Kret : ∀ (y0 : Int32), y0 = z0 → zRe X g m (some (.int y0)) := by
    intro y0 e; cases e; exact ⟨hxf, hxr, hxn⟩
  subst hxl
  show zG X cX2_isSign 1 "QuiverKinModel" "isSign" 1 20 0 [(0, .int a0)] [] g m
  unfold f_X2_isSign at h
  refine g_iload_n dX2_isSign_0 0 rfl ?_
  rcases Decidable.em (a0 = (35 : Int32)) with c | c35
  · have h := zite_p h c
    refine g_tsw (v := (35 : Int32)) (off := 127) 128 dX2_isSign_1 c (by decide) (by decide) (by decide) (by decide) ?_
    refine g_iconst (v := (1 : Int32)) dX2_isSign_128 (by decide) ?_
    refine g_zret dX2_isSign_129 hxt rfl ?_
    have e := Option.some.inj h
    exact Kret _ e
  have h := zite_n h c35
  rcases Decidable.em (a0 = (40 : Int32)) with c | c40
  · have h := zite_p h c
    refine g_tsw (v := (40 : Int32)) (off := 127) 128 dX2_isSign_1 c (by decide) (by decide) (by decide) (by decide) ?_
    refine g_iconst (v := (1 : Int32)) dX2_isSign_128 (by decide) ?_
    refine g_zret dX2_isSign_129 hxt rfl ?_
    have e := Option.some.inj h
    exact Kret _ e
  have h := zite_n h c40
  rcases Decidable.em (a0 = (41 : Int32)) with c | c41
  · have h := zite_p h c
    refine g_tsw (v := (41 : Int32)) (off := 127) 128 dX2_isSign_1 c (by decide) (by decide) (by decide) (by decide) ?_
    refine g_iconst (v := (1 : Int32)) dX2_isSign_128 (by decide) ?_
    refine g_zret dX2_isSign_129 hxt rfl ?_
    have e := Option.some.inj h
    exact Kret _ e
  have h := zite_n h c41
  rcases Decidable.em (a0 = (42 : Int32)) with c | c42
  · have h := zite_p h c
    refine g_tsw (v := (42 : Int32)) (off := 127) 128 dX2_isSign_1 c (by decide) (by decide) (by decide) (by decide) ?_
    refine g_iconst (v := (1 : Int32)) dX2_isSign_128 (by decide) ?_
    refine g_zret dX2_isSign_129 hxt rfl ?_
    have e := Option.some.inj h
    exact Kret _ e
  have h := zite_n h c42
  rcases Decidable.em (a0 = (43 : Int32)) with c | c43
  · have h := zite_p h c
    refine g_tsw (v := (43 : Int32)) (off := 127) 128 dX2_isSign_1 c (by decide) (by decide) (by decide) (by decide) ?_
    refine g_iconst (v := (1 : Int32)) dX2_isSign_128 (by decide) ?_
    refine g_zret dX2_isSign_129 hxt rfl ?_
    have e := Option.some.inj h
    exact Kret _ e
  have h := zite_n h c43
  rcases Decidable.em (a0 = (45 : Int32)) with c | c45
  · have h := zite_p h c
    refine g_tsw (v := (45 : Int32)) (off := 127) 128 dX2_isSign_1 c (by decide) (by decide) (by decide) (by decide) ?_
    refine g_iconst (v := (1 : Int32)) dX2_isSign_128 (by decide) ?_
    refine g_zret dX2_isSign_129 hxt rfl ?_
    have e := Option.some.inj h
    exact Kret _ e
  have h := zite_n h c45
  rcases Decidable.em (a0 = (47 : Int32)) with c | c47
  · have h := zite_p h c
    refine g_tsw (v := (47 : Int32)) (off := 127) 128 dX2_isSign_1 c (by decide) (by decide) (by decide) (by decide) ?_
    refine g_iconst (v := (1 : Int32)) dX2_isSign_128 (by decide) ?_
    refine g_zret dX2_isSign_129 hxt rfl ?_
    have e := Option.some.inj h
    exact Kret _ e
  have h := zite_n h c47
  rcases Decidable.em (a0 = (58 : Int32)) with c | c58
  · have h := zite_p h c
    refine g_tsw (v := (58 : Int32)) (off := 127) 128 dX2_isSign_1 c (by decide) (by decide) (by decide) (by decide) ?_
    refine g_iconst (v := (1 : Int32)) dX2_isSign_128 (by decide) ?_
    refine g_zret dX2_isSign_129 hxt rfl ?_
    have e := Option.some.inj h
    exact Kret _ e
  have h := zite_n h c58
  rcases Decidable.em (a0 = (59 : Int32)) with c | c59
  · have h := zite_p h c
    refine g_tsw (v := (59 : Int32)) (off := 127) 128 dX2_isSign_1 c (by decide) (by decide) (by decide) (by decide) ?_
    refine g_iconst (v := (1 : Int32)) dX2_isSign_128 (by decide) ?_
    refine g_zret dX2_isSign_129 hxt rfl ?_
    have e := Option.some.inj h
    exact Kret _ e
  have h := zite_n h c59
  rcases Decidable.em (a0 = (60 : Int32)) with c | c60
  · have h := zite_p h c
    refine g_tsw (v := (60 : Int32)) (off := 127) 128 dX2_isSign_1 c (by decide) (by decide) (by decide) (by decide) ?_
    refine g_iconst (v := (1 : Int32)) dX2_isSign_128 (by decide) ?_
    refine g_zret dX2_isSign_129 hxt rfl ?_
    have e := Option.some.inj h
    exact Kret _ e
  have h := zite_n h c60
  rcases Decidable.em (a0 = (61 : Int32)) with c | c61
  · have h := zite_p h c
    refine g_tsw (v := (61 : Int32)) (off := 127) 128 dX2_isSign_1 c (by decide) (by decide) (by decide) (by decide) ?_
    refine g_iconst (v := (1 : Int32)) dX2_isSign_128 (by decide) ?_
    refine g_zret dX2_isSign_129 hxt rfl ?_
    have e := Option.some.inj h
    exact Kret _ e
  have h := zite_n h c61
  rcases Decidable.em (a0 = (62 : Int32)) with c | c62
  · have h := zite_p h c
    refine g_tsw (v := (62 : Int32)) (off := 127) 128 dX2_isSign_1 c (by decide) (by decide) (by decide) (by decide) ?_
    refine g_iconst (v := (1 : Int32)) dX2_isSign_128 (by decide) ?_
    refine g_zret dX2_isSign_129 hxt rfl ?_
    have e := Option.some.inj h
    exact Kret _ e
  have h := zite_n h c62
  refine g_tswG (n := 28) (vs := [(35 : Int32), (40 : Int32), (41 : Int32), (42 : Int32), (43 : Int32), (45 : Int32), (47 : Int32), (58 : Int32), (59 : Int32), (60 : Int32), (61 : Int32), (62 : Int32)]) 130 dX2_isSign_1 (List.forall_mem_cons.mpr ⟨c35, List.forall_mem_cons.mpr ⟨c40, List.forall_mem_cons.mpr ⟨c41, List.forall_mem_cons.mpr ⟨c42, List.forall_mem_cons.mpr ⟨c43, List.forall_mem_cons.mpr ⟨c45, List.forall_mem_cons.mpr ⟨c47, List.forall_mem_cons.mpr ⟨c58, List.forall_mem_cons.mpr ⟨c59, List.forall_mem_cons.mpr ⟨c60, List.forall_mem_cons.mpr ⟨c61, List.forall_mem_cons.mpr ⟨c62, fun _ h9 => absurd h9 List.not_mem_nil⟩⟩⟩⟩⟩⟩⟩⟩⟩⟩⟩⟩) (by decide) (by decide) (by decide) ?_
  refine g_iconst (v := (0 : Int32)) dX2_isSign_130 (by decide) ?_
  refine g_zret dX2_isSign_131 hxt rfl ?_
  have e := Option.some.inj h
  exact Kret _ e
/-! QuiverKinModel.nextToken -/
def b_X2_nextToken_0 (g : zGd) (a0 : Option Nat) : zMm → Option ((zMm) ⊕ (zMm)) := fun m4 =>
(zgi g m4 2 7 a0).bind fun v5 =>
(zrc g 2 a0 (f_X2_byteAt g m4 a0 v5)).bind fun v6 =>
zEx (σ := Unit) (if v6 = (32 : Int32) then (some (.inr ()))
else ((zgi g m4 2 7 a0).bind fun v8 =>
(zrc g 2 a0 (f_X2_byteAt g m4 a0 v8)).bind fun v9 =>
if v9 = (10 : Int32) then (some (.inr ()))
else (some (.inl (.inl m4))))) fun _ =>
(zgi g m4 2 7 a0).bind fun v10 =>
(zpi g m4 2 7 a0 (v10 + (1 : Int32))).bind fun m11 =>
some (.inr m11)
def b_X2_nextToken_168 (g : zGd) (a0 : Option Nat) : zMm → Option ((zMm) ⊕ (zMm)) := fun m37 =>
(zgi g m37 2 7 a0).bind fun v38 =>
(zrc g 2 a0 (f_X2_byteAt g m37 a0 v38)).bind fun v39 =>
(f_X2_isLetterByte v39).bind fun v40 =>
if v40 = 0 then (some (.inl m37))
else ((zgj g m37 2 11 a0).bind fun w41 =>
((if (zlshr w41 (48 : Int32)) = (0 : Int64) then ((zgj g m37 2 11 a0).bind fun w44 =>
(zgi g m37 2 7 a0).bind fun v45 =>
(zrc g 2 a0 (f_X2_byteAt g m37 a0 v45)).bind fun v46 =>
some (((zlshl w44 (8 : Int32)) ||| (v46.toInt64))))
else (some ((1152921504606846976 : Int64))) : Option (Int64))).bind fun w43 =>
(zpj g m37 2 11 a0 w43).bind fun m47 =>
(zgi g m47 2 7 a0).bind fun v48 =>
(zpi g m47 2 7 a0 (v48 + (1 : Int32))).bind fun m49 =>
some (.inr m49))
def b_X2_nextToken_85 (g : zGd) (a0 : Option Nat) : zMm → Option ((zMm) ⊕ (zMm)) := fun m55 =>
(zgi g m55 2 7 a0).bind fun v56 =>
(zrc g 2 a0 (f_X2_byteAt g m55 a0 v56)).bind fun v57 =>
(f_X2_isFigure v57).bind fun v58 =>
if v58 = 0 then (some (.inl m55))
else ((zgi g m55 2 10 a0).bind fun v59 =>
((if v59 ≤ (99999 : Int32) then ((zgi g m55 2 10 a0).bind fun v62 =>
(zgi g m55 2 7 a0).bind fun v63 =>
(zrc g 2 a0 (f_X2_byteAt g m55 a0 v63)).bind fun v64 =>
some (((((10 : Int32) * v62) + v64) - (48 : Int32))))
else ((zgi g m55 2 10 a0).bind fun v65 =>
some (v65)) : Option (Int32))).bind fun v61 =>
(zpi g m55 2 10 a0 v61).bind fun m66 =>
(zgi g m66 2 7 a0).bind fun v67 =>
(zpi g m66 2 7 a0 (v67 + (1 : Int32))).bind fun m68 =>
some (.inr m68))
def f_X2_nextToken (g : zGd) (m : zMm) (a0 : Option Nat) : Option (zMm) :=
(zLoop (b_X2_nextToken_0 g a0) zFuel m).bind fun m2 =>
(zgi g m2 2 7 a0).bind fun v12 =>
(zpi g m2 2 8 a0 v12).bind fun m13 =>
(zgi g m13 2 7 a0).bind fun v14 =>
(zrc g 2 a0 (f_X2_byteAt g m13 a0 v14)).bind fun v15 =>
if 0 ≤ v15 then ((f_X2_isFigure v15).bind fun v16 =>
if v16 = 0 then ((f_X2_isLetterByte v15).bind fun v17 =>
if v17 = 0 then ((f_X2_isSign v15).bind fun v18 =>
((if v18 = 0 then (some ((3 : Int32)))
else (some (v15)) : Option (Int32))).bind fun v20 =>
(zpi g m13 2 9 a0 v20).bind fun m21 =>
(zgi g m21 2 7 a0).bind fun v22 =>
(zpi g m21 2 7 a0 (v22 + (1 : Int32))).bind fun m23 =>
zEx (σ := Unit) (if v15 = (60 : Int32) then (some (.inr ()))
else (if v15 = (62 : Int32) then (some (.inr ()))
else (some (.inl m23)))) fun _ =>
(zgi g m23 2 7 a0).bind fun v25 =>
(zrc g 2 a0 (f_X2_byteAt g m23 a0 v25)).bind fun v26 =>
if v26 = (61 : Int32) then (((if v15 = (60 : Int32) then (some ((4 : Int32)))
else (some ((5 : Int32))) : Option (Int32))).bind fun v28 =>
(zpi g m23 2 9 a0 v28).bind fun m29 =>
(zgi g m29 2 7 a0).bind fun v30 =>
(zpi g m29 2 7 a0 (v30 + (1 : Int32))).bind fun m31 =>
some (m31))
else (some (m23)))
else ((zpi g m13 2 9 a0 (2 : Int32)).bind fun m32 =>
(zpj g m32 2 11 a0 (0 : Int64)).bind fun m33 =>
(zLoop (b_X2_nextToken_168 g a0) zFuel m33).bind fun m35 =>
some (m35)))
else ((zpi g m13 2 9 a0 (1 : Int32)).bind fun m50 =>
(zpi g m50 2 10 a0 (0 : Int32)).bind fun m51 =>
(zLoop (b_X2_nextToken_85 g a0) zFuel m51).bind fun m53 =>
some (m53)))
else ((zpi g m13 2 9 a0 (0 : Int32)).bind fun m69 =>
some (m69))
theorem hy_X2_nextToken : zHy yX2_nextToken 0 := ⟨by decide, by decide, by decide +kernel⟩
set_option maxHeartbeats 4000000 in
theorem ok_X2_nextToken (l : Launch) (g : zGd) (m : zMm) (a0 : Option Nat) (m0 : zMm) (h : f_X2_nextToken g m a0 = some m0) : zCT l yX2_nextToken cX2_nextToken 2 none 2 41 g m [va_rf a0] none g m0 := by
  refine zCT.of (own := "QuiverKinModel") (mn := "nextToken") (by decide +kernel) rfl rfl (zla_r zla_0) (zls_r zls_0) (by decide) (fun X hxl hxg hxf hxt hxr hxn => ?_)
  have Kret : ∀ (y0 : zMm), y0 = m0 → zRe X g y0 none := by
    intro y0 e; cases e; exact ⟨hxf, hxr, hxn⟩
  subst hxl
  show zG X cX2_nextToken 2 "QuiverKinModel" "nextToken" 2 41 0 [(0, va_rf a0)] [] g m
  unfold f_X2_nextToken at h
  obtain ⟨o1, h1, h2⟩ := zB_e h
  have K1 : ∀ (m2 : zMm), o1 = m2 → zG X cX2_nextToken 2 "QuiverKinModel" "nextToken" 2 41 39 [(0, va_rf a0)] [] g m2 := by
    intro m2 e
    rw [e] at h2
    have h := h2
    refine g_aload_n dX2_nextToken_39 0 rfl ?_
    refine g_aload_n dX2_nextToken_40 0 rfl ?_
    refine gf_i zfd_2_7 q1417  (fun _ h9 => h9) dX2_nextToken_41 h (fun v12 h => ?_)
    refine gp_i zpd_2_8 q1418 (fun _ h9 => h9) dX2_nextToken_44 h (fun m13 h => ?_)
    refine g_aload_n dX2_nextToken_47 0 rfl ?_
    refine g_aload_n dX2_nextToken_48 0 rfl ?_
    refine gf_i zfd_2_7 q1417  (fun _ h9 => h9) dX2_nextToken_49 h (fun v14 h => ?_)
    refine g_cVRv (rv := fun x : Int32 => Value.int x) [.int v14] (fun x0 e0 => ok_X2_byteAt (xl X) g m13 a0 v14 x0 e0) zc2 (by decide) (lw_V q1573 q1575 qs59 q126 q1576) rfl hy_X2_byteAt rfl ⟨by decide, by decide⟩ rfl zc_0 (by decide) dX2_nextToken_52 h (fun v15 h => ?_)
    refine g_istore_n [(1, .int v15), (0, va_rf a0)] dX2_nextToken_55 (by decide) (zf_r zf_0) rfl ?_
    refine g_iload_n dX2_nextToken_56 0 rfl ?_
    refine g_if_ge 68 dX2_nextToken_57 (by decide) (fun c => ?_) (fun c => ?_)
    · have h := zite_p h c
      refine g_iload_n dX2_nextToken_68 0 rfl ?_
      refine g_cSRv (rv := fun x : Int32 => Value.int x) [.int v15] (fun x0 e0 => ok_X2_isFigure (xl X) g m13 v15 x0 e0) (lw_S q1577 q1578 q126 q1579) hy_X2_isFigure rfl ⟨by decide, by decide⟩ rfl zc_0 (by decide) dX2_nextToken_69 h (fun v16 h => ?_)
      refine g_if_eq 151 dX2_nextToken_72 (by decide) (fun c => ?_) (fun c => ?_)
      · have h := zite_p h c
        refine g_iload_n dX2_nextToken_151 0 rfl ?_
        refine g_cSRv (rv := fun x : Int32 => Value.int x) [.int v15] (fun x0 e0 => ok_X2_isLetterByte (xl X) g m13 v15 x0 e0) (lw_S q1581 q1582 q126 q1583) hy_X2_isLetterByte rfl ⟨by decide, by decide⟩ rfl zc_0 (by decide) dX2_nextToken_152 h (fun v17 h => ?_)
        refine g_if_eq 234 dX2_nextToken_155 (by decide) (fun c => ?_) (fun c => ?_)
        · have h := zite_p h c
          refine g_aload_n dX2_nextToken_234 1 rfl ?_
          refine g_iload_n dX2_nextToken_235 0 rfl ?_
          refine g_cSRv (rv := fun x : Int32 => Value.int x) [.int v15] (fun x0 e0 => ok_X2_isSign (xl X) g m13 v15 x0 e0) (lw_S q1585 q1586 q126 q1587) hy_X2_isSign rfl ⟨by decide, by decide⟩ rfl (zc_r zc_0) (by decide) dX2_nextToken_236 h (fun v18 h => ?_)
          obtain ⟨o19, h1, h2⟩ := zB_e h
          have K19 : ∀ (v20 : Int32), o19 = v20 → zG X cX2_nextToken 2 "QuiverKinModel" "nextToken" 2 41 247 [(0, va_rf a0), (1, .int v15)] [.int v20, va_rf a0] g m13 := by
            intro v20 e
            rw [e] at h2
            have h := h2
            refine gp_i zpd_2_9 q1419 (fun _ h9 => h9) dX2_nextToken_247 h (fun m21 h => ?_)
            refine g_aload_n dX2_nextToken_250 0 rfl ?_
            refine g_dup dX2_nextToken_251 (zcat_r _) ?_
            refine gf_i zfd_2_7 q1417  (fun _ h9 => h9) dX2_nextToken_252 h (fun v22 h => ?_)
            refine g_iconst (v := (1 : Int32)) dX2_nextToken_255 (by decide) ?_
            refine g_iadd dX2_nextToken_256 ?_
            refine gp_i zpd_2_7 q1417 (fun _ h9 => h9) dX2_nextToken_257 h (fun m23 h => ?_)
            refine g_iload_n dX2_nextToken_260 1 rfl ?_
            refine g_bipush (v := (60 : Int32)) dX2_nextToken_261 (by decide) ?_
            obtain ⟨o24, h1, hl24, hr24⟩ := zEx_e h
            have K24 : o24 = .inr () → zG X cX2_nextToken 2 "QuiverKinModel" "nextToken" 2 41 272 [(0, va_rf a0), (1, .int v15)] [] g m23 := by
              intro e
              have h := hr24 _ e
              refine g_aload_n dX2_nextToken_272 0 rfl ?_
              refine g_aload_n dX2_nextToken_273 0 rfl ?_
              refine gf_i zfd_2_7 q1417  (fun _ h9 => h9) dX2_nextToken_274 h (fun v25 h => ?_)
              refine g_cVRv (rv := fun x : Int32 => Value.int x) [.int v25] (fun x0 e0 => ok_X2_byteAt (xl X) g m23 a0 v25 x0 e0) zc2 (by decide) (lw_V q1573 q1575 qs59 q126 q1576) rfl hy_X2_byteAt rfl ⟨by decide, by decide⟩ rfl zc_0 (by decide) dX2_nextToken_277 h (fun v26 h => ?_)
              refine g_bipush (v := (61 : Int32)) dX2_nextToken_280 (by decide) ?_
              refine g_icmp_ne 310 dX2_nextToken_282 (by decide) (fun c => ?_) (fun c => ?_)
              · have h := zite_n h c
                refine g_vret dX2_nextToken_310 hxt ?_
                have e := Option.some.inj h
                exact Kret _ e
              · have h := zite_p h c
                refine g_aload_n dX2_nextToken_285 0 rfl ?_
                refine g_iload_n dX2_nextToken_286 1 rfl ?_
                refine g_bipush (v := (60 : Int32)) dX2_nextToken_287 (by decide) ?_
                obtain ⟨o27, h1, h2⟩ := zB_e h
                have K27 : ∀ (v28 : Int32), o27 = v28 → zG X cX2_nextToken 2 "QuiverKinModel" "nextToken" 2 41 297 [(0, va_rf a0)] [.int v28, va_rf a0] g m23 := by
                  intro v28 e
                  rw [e] at h2
                  have h := h2
                  refine gp_i zpd_2_9 q1419 (fun _ h9 => h9) dX2_nextToken_297 h (fun m29 h => ?_)
                  refine g_aload_n dX2_nextToken_300 0 rfl ?_
                  refine g_dup dX2_nextToken_301 (zcat_r _) ?_
                  refine gf_i zfd_2_7 q1417  (fun _ h9 => h9) dX2_nextToken_302 h (fun v30 h => ?_)
                  refine g_iconst (v := (1 : Int32)) dX2_nextToken_305 (by decide) ?_
                  refine g_iadd dX2_nextToken_306 ?_
                  refine gp_i zpd_2_7 q1417 (fun _ h9 => h9) dX2_nextToken_307 h (fun m31 h => ?_)
                  refine g_vret dX2_nextToken_310 hxt ?_
                  have e := Option.some.inj h
                  exact Kret _ e
                have h := h1
                refine g_icmp_ne 296 dX2_nextToken_289 (by decide) (fun c => ?_) (fun c => ?_)
                · have h := zite_n h c
                  refine g_iconst (v := (5 : Int32)) dX2_nextToken_296 (by decide) ?_
                  refine zG.sub [0] rfl ?_
                  have e := Option.some.inj h
                  exact K27 _ e.symm
                · have h := zite_p h c
                  refine g_iconst (v := (4 : Int32)) dX2_nextToken_292 (by decide) ?_
                  refine g_goto 297 dX2_nextToken_293 (by decide) ?_
                  refine zG.sub [0] rfl ?_
                  have e := Option.some.inj h
                  exact K27 _ e.symm
            have h := h1
            refine g_icmp_eq 272 dX2_nextToken_263 (by decide) (fun c => ?_) (fun c => ?_)
            · have h := zite_p h c
              refine zG.sub [0, 1] rfl ?_
              have e := Option.some.inj h
              exact K24 e.symm
            · have h := zite_n h c
              refine g_iload_n dX2_nextToken_266 1 rfl ?_
              refine g_bipush (v := (62 : Int32)) dX2_nextToken_267 (by decide) ?_
              refine g_icmp_ne 310 dX2_nextToken_269 (by decide) (fun c => ?_) (fun c => ?_)
              · have h := zite_n h c
                refine g_vret dX2_nextToken_310 hxt ?_
                have e := Option.some.inj h
                have e := hl24 _ e.symm
                exact Kret _ e
              · have h := zite_p h c
                refine zG.sub [0, 1] rfl ?_
                have e := Option.some.inj h
                exact K24 e.symm
          have h := h1
          refine g_if_eq 246 dX2_nextToken_239 (by decide) (fun c => ?_) (fun c => ?_)
          · have h := zite_p h c
            refine g_iconst (v := (3 : Int32)) dX2_nextToken_246 (by decide) ?_
            refine zG.sub [1, 0] rfl ?_
            have e := Option.some.inj h
            exact K19 _ e.symm
          · have h := zite_n h c
            refine g_iload_n dX2_nextToken_242 0 rfl ?_
            refine g_goto 247 dX2_nextToken_243 (by decide) ?_
            refine zG.sub [1, 0] rfl ?_
            have e := Option.some.inj h
            exact K19 _ e.symm
        · have h := zite_n h c
          refine g_aload_n dX2_nextToken_158 1 rfl ?_
          refine g_iconst (v := (2 : Int32)) dX2_nextToken_159 (by decide) ?_
          refine gp_i zpd_2_9 q1419 (fun _ h9 => h9) dX2_nextToken_160 h (fun m32 h => ?_)
          refine g_aload_n dX2_nextToken_163 1 rfl ?_
          refine g_lconst (v := (0 : Int64)) dX2_nextToken_164 (by decide) ?_
          refine gp_j zpd_2_11 q1421 (fun _ h9 => h9) dX2_nextToken_165 h (fun m33 h => ?_)
          obtain ⟨o34, h1, h2⟩ := zB_e h
          have K34 : ∀ (m35 : zMm), o34 = m35 → zG X cX2_nextToken 2 "QuiverKinModel" "nextToken" 2 41 310 [] [] g m35 := by
            intro m35 e
            rw [e] at h2
            have h := h2
            refine g_vret dX2_nextToken_310 hxt ?_
            have e := Option.some.inj h
            exact Kret _ e
          refine zG.sub [1] rfl ?_
          refine zLoop_ok (Φ := (fun m37 : zMm => zG X cX2_nextToken 2 "QuiverKinModel" "nextToken" 2 41 168 [(0, va_rf a0)] [] g m37)) o34 ?_ zFuel _ h1
          rintro m37 x36 h hl36 hr36
          unfold b_X2_nextToken_168 at h
          have K36 : ∀ (m37 : zMm), x36 = .inr m37 → zG X cX2_nextToken 2 "QuiverKinModel" "nextToken" 2 41 168 [(0, va_rf a0)] [] g m37 := by
            intro m37 e
            exact hr36 _ e
          show zG X cX2_nextToken 2 "QuiverKinModel" "nextToken" 2 41 168 [(0, va_rf a0)] [] g m37
          refine g_aload_n dX2_nextToken_168 0 rfl ?_
          refine g_aload_n dX2_nextToken_169 0 rfl ?_
          refine gf_i zfd_2_7 q1417  (fun _ h9 => h9) dX2_nextToken_170 h (fun v38 h => ?_)
          refine g_cVRv (rv := fun x : Int32 => Value.int x) [.int v38] (fun x0 e0 => ok_X2_byteAt (xl X) g m37 a0 v38 x0 e0) zc2 (by decide) (lw_V q1573 q1575 qs59 q126 q1576) rfl hy_X2_byteAt rfl ⟨by decide, by decide⟩ rfl zc_0 (by decide) dX2_nextToken_173 h (fun v39 h => ?_)
          refine g_cSRv (rv := fun x : Int32 => Value.int x) [.int v39] (fun x0 e0 => ok_X2_isLetterByte (xl X) g m37 v39 x0 e0) (lw_S q1581 q1582 q126 q1583) hy_X2_isLetterByte rfl ⟨by decide, by decide⟩ rfl zc_0 (by decide) dX2_nextToken_176 h (fun v40 h => ?_)
          refine g_if_eq 310 dX2_nextToken_179 (by decide) (fun c => ?_) (fun c => ?_)
          · have h := zite_p h c
            refine zG.sub [] rfl ?_
            have e := Option.some.inj h
            have e := hl36 _ e.symm
            exact K34 _ e.symm
          · have h := zite_n h c
            refine g_aload_n dX2_nextToken_182 0 rfl ?_
            refine g_aload_n dX2_nextToken_183 0 rfl ?_
            refine gf_j zfd_2_11 q1421  (fun _ h9 => h9) dX2_nextToken_184 h (fun w41 h => ?_)
            refine g_bipush (v := (48 : Int32)) dX2_nextToken_187 (by decide) ?_
            refine g_lshr dX2_nextToken_189 ?_
            refine g_lconst (v := (0 : Int64)) dX2_nextToken_190 (by decide) ?_
            obtain ⟨o42, h1, h2⟩ := zB_e h
            have K42 : ∀ (w43 : Int64), o42 = w43 → zG X cX2_nextToken 2 "QuiverKinModel" "nextToken" 2 41 218 [(0, va_rf a0)] [.long w43, va_rf a0] g m37 := by
              intro w43 e
              rw [e] at h2
              have h := h2
              refine gp_j zpd_2_11 q1421 (fun _ h9 => h9) dX2_nextToken_218 h (fun m47 h => ?_)
              refine g_aload_n dX2_nextToken_221 0 rfl ?_
              refine g_dup dX2_nextToken_222 (zcat_r _) ?_
              refine gf_i zfd_2_7 q1417  (fun _ h9 => h9) dX2_nextToken_223 h (fun v48 h => ?_)
              refine g_iconst (v := (1 : Int32)) dX2_nextToken_226 (by decide) ?_
              refine g_iadd dX2_nextToken_227 ?_
              refine gp_i zpd_2_7 q1417 (fun _ h9 => h9) dX2_nextToken_228 h (fun m49 h => ?_)
              refine g_goto 168 dX2_nextToken_231 (by decide) ?_
              refine zG.sub [0] rfl ?_
              have e := Option.some.inj h
              exact K36 _ e.symm
            have h := h1
            refine g_lcmp_eq 201 dX2_nextToken_191 dX2_nextToken_192 (by decide) (fun c => ?_) (fun c => ?_)
            · have h := zite_p h c
              refine g_aload_n dX2_nextToken_201 0 rfl ?_
              refine gf_j zfd_2_11 q1421  (fun _ h9 => h9) dX2_nextToken_202 h (fun w44 h => ?_)
              refine g_bipush (v := (8 : Int32)) dX2_nextToken_205 (by decide) ?_
              refine g_lshl dX2_nextToken_207 ?_
              refine g_aload_n dX2_nextToken_208 0 rfl ?_
              refine g_aload_n dX2_nextToken_209 0 rfl ?_
              refine gf_i zfd_2_7 q1417  (fun _ h9 => h9) dX2_nextToken_210 h (fun v45 h => ?_)
              refine g_cVRv (rv := fun x : Int32 => Value.int x) [.int v45] (fun x0 e0 => ok_X2_byteAt (xl X) g m37 a0 v45 x0 e0) zc2 (by decide) (lw_V q1573 q1575 qs59 q126 q1576) rfl hy_X2_byteAt rfl ⟨by decide, by decide⟩ rfl (zc_l (zc_r zc_0)) (by decide) dX2_nextToken_213 h (fun v46 h => ?_)
              refine g_i2l dX2_nextToken_216 ?_
              refine g_lor dX2_nextToken_217 ?_
              refine zG.sub [0] rfl ?_
              have e := Option.some.inj h
              exact K42 _ e.symm
            · have h := zite_n h c
              refine g_ldc2 (v := (1152921504606846976 : Int64)) q1584 dX2_nextToken_195 ?_
              refine g_goto 218 dX2_nextToken_198 (by decide) ?_
              refine zG.sub [0] rfl ?_
              have e := Option.some.inj h
              exact K42 _ e.symm
      · have h := zite_n h c
        refine g_aload_n dX2_nextToken_75 1 rfl ?_
        refine g_iconst (v := (1 : Int32)) dX2_nextToken_76 (by decide) ?_
        refine gp_i zpd_2_9 q1419 (fun _ h9 => h9) dX2_nextToken_77 h (fun m50 h => ?_)
        refine g_aload_n dX2_nextToken_80 1 rfl ?_
        refine g_iconst (v := (0 : Int32)) dX2_nextToken_81 (by decide) ?_
        refine gp_i zpd_2_10 q1420 (fun _ h9 => h9) dX2_nextToken_82 h (fun m51 h => ?_)
        obtain ⟨o52, h1, h2⟩ := zB_e h
        have K52 : ∀ (m53 : zMm), o52 = m53 → zG X cX2_nextToken 2 "QuiverKinModel" "nextToken" 2 41 310 [] [] g m53 := by
          intro m53 e
          rw [e] at h2
          have h := h2
          refine g_vret dX2_nextToken_310 hxt ?_
          have e := Option.some.inj h
          exact Kret _ e
        refine zG.sub [1] rfl ?_
        refine zLoop_ok (Φ := (fun m55 : zMm => zG X cX2_nextToken 2 "QuiverKinModel" "nextToken" 2 41 85 [(0, va_rf a0)] [] g m55)) o52 ?_ zFuel _ h1
        rintro m55 x54 h hl54 hr54
        unfold b_X2_nextToken_85 at h
        have K54 : ∀ (m55 : zMm), x54 = .inr m55 → zG X cX2_nextToken 2 "QuiverKinModel" "nextToken" 2 41 85 [(0, va_rf a0)] [] g m55 := by
          intro m55 e
          exact hr54 _ e
        show zG X cX2_nextToken 2 "QuiverKinModel" "nextToken" 2 41 85 [(0, va_rf a0)] [] g m55
        refine g_aload_n dX2_nextToken_85 0 rfl ?_
        refine g_aload_n dX2_nextToken_86 0 rfl ?_
        refine gf_i zfd_2_7 q1417  (fun _ h9 => h9) dX2_nextToken_87 h (fun v56 h => ?_)
        refine g_cVRv (rv := fun x : Int32 => Value.int x) [.int v56] (fun x0 e0 => ok_X2_byteAt (xl X) g m55 a0 v56 x0 e0) zc2 (by decide) (lw_V q1573 q1575 qs59 q126 q1576) rfl hy_X2_byteAt rfl ⟨by decide, by decide⟩ rfl zc_0 (by decide) dX2_nextToken_90 h (fun v57 h => ?_)
        refine g_cSRv (rv := fun x : Int32 => Value.int x) [.int v57] (fun x0 e0 => ok_X2_isFigure (xl X) g m55 v57 x0 e0) (lw_S q1577 q1578 q126 q1579) hy_X2_isFigure rfl ⟨by decide, by decide⟩ rfl zc_0 (by decide) dX2_nextToken_93 h (fun v58 h => ?_)
        refine g_if_eq 310 dX2_nextToken_96 (by decide) (fun c => ?_) (fun c => ?_)
        · have h := zite_p h c
          refine zG.sub [] rfl ?_
          have e := Option.some.inj h
          have e := hl54 _ e.symm
          exact K52 _ e.symm
        · have h := zite_n h c
          refine g_aload_n dX2_nextToken_99 0 rfl ?_
          refine g_aload_n dX2_nextToken_100 0 rfl ?_
          refine gf_i zfd_2_10 q1420  (fun _ h9 => h9) dX2_nextToken_101 h (fun v59 h => ?_)
          refine g_ldc (v := (99999 : Int32)) q1580 dX2_nextToken_104 ?_
          obtain ⟨o60, h1, h2⟩ := zB_e h
          have K60 : ∀ (v61 : Int32), o60 = v61 → zG X cX2_nextToken 2 "QuiverKinModel" "nextToken" 2 41 135 [(0, va_rf a0)] [.int v61, va_rf a0] g m55 := by
            intro v61 e
            rw [e] at h2
            have h := h2
            refine gp_i zpd_2_10 q1420 (fun _ h9 => h9) dX2_nextToken_135 h (fun m66 h => ?_)
            refine g_aload_n dX2_nextToken_138 0 rfl ?_
            refine g_dup dX2_nextToken_139 (zcat_r _) ?_
            refine gf_i zfd_2_7 q1417  (fun _ h9 => h9) dX2_nextToken_140 h (fun v67 h => ?_)
            refine g_iconst (v := (1 : Int32)) dX2_nextToken_143 (by decide) ?_
            refine g_iadd dX2_nextToken_144 ?_
            refine gp_i zpd_2_7 q1417 (fun _ h9 => h9) dX2_nextToken_145 h (fun m68 h => ?_)
            refine g_goto 85 dX2_nextToken_148 (by decide) ?_
            refine zG.sub [0] rfl ?_
            have e := Option.some.inj h
            exact K54 _ e.symm
          have h := h1
          refine g_icmp_le 116 dX2_nextToken_106 (by decide) (fun c => ?_) (fun c => ?_)
          · have h := zite_p h c
            refine g_bipush (v := (10 : Int32)) dX2_nextToken_116 (by decide) ?_
            refine g_aload_n dX2_nextToken_118 0 rfl ?_
            refine gf_i zfd_2_10 q1420  (fun _ h9 => h9) dX2_nextToken_119 h (fun v62 h => ?_)
            refine g_imul dX2_nextToken_122 ?_
            refine g_aload_n dX2_nextToken_123 0 rfl ?_
            refine g_aload_n dX2_nextToken_124 0 rfl ?_
            refine gf_i zfd_2_7 q1417  (fun _ h9 => h9) dX2_nextToken_125 h (fun v63 h => ?_)
            refine g_cVRv (rv := fun x : Int32 => Value.int x) [.int v63] (fun x0 e0 => ok_X2_byteAt (xl X) g m55 a0 v63 x0 e0) zc2 (by decide) (lw_V q1573 q1575 qs59 q126 q1576) rfl hy_X2_byteAt rfl ⟨by decide, by decide⟩ rfl (zc_i (zc_r zc_0)) (by decide) dX2_nextToken_128 h (fun v64 h => ?_)
            refine g_iadd dX2_nextToken_131 ?_
            refine g_bipush (v := (48 : Int32)) dX2_nextToken_132 (by decide) ?_
            refine g_isub dX2_nextToken_134 ?_
            refine zG.sub [0] rfl ?_
            have e := Option.some.inj h
            exact K60 _ e.symm
          · have h := zite_n h c
            refine g_aload_n dX2_nextToken_109 0 rfl ?_
            refine gf_i zfd_2_10 q1420  (fun _ h9 => h9) dX2_nextToken_110 h (fun v65 h => ?_)
            refine g_goto 135 dX2_nextToken_113 (by decide) ?_
            refine zG.sub [0] rfl ?_
            have e := Option.some.inj h
            exact K60 _ e.symm
    · have h := zite_n h c
      refine g_aload_n dX2_nextToken_60 1 rfl ?_
      refine g_iconst (v := (0 : Int32)) dX2_nextToken_61 (by decide) ?_
      refine gp_i zpd_2_9 q1419 (fun _ h9 => h9) dX2_nextToken_62 h (fun m69 h => ?_)
      refine g_goto 310 dX2_nextToken_65 (by decide) ?_
      refine g_vret dX2_nextToken_310 hxt ?_
      have e := Option.some.inj h
      exact Kret _ e
  refine zG.sub [0] rfl ?_
  refine zLoop_ok (Φ := (fun m4 : zMm => zG X cX2_nextToken 2 "QuiverKinModel" "nextToken" 2 41 0 [(0, va_rf a0)] [] g m4)) o1 ?_ zFuel _ h1
  rintro m4 x3 h hl3 hr3
  unfold b_X2_nextToken_0 at h
  have K3 : ∀ (m4 : zMm), x3 = .inr m4 → zG X cX2_nextToken 2 "QuiverKinModel" "nextToken" 2 41 0 [(0, va_rf a0)] [] g m4 := by
    intro m4 e
    exact hr3 _ e
  show zG X cX2_nextToken 2 "QuiverKinModel" "nextToken" 2 41 0 [(0, va_rf a0)] [] g m4
  refine g_aload_n dX2_nextToken_0 0 rfl ?_
  refine g_aload_n dX2_nextToken_1 0 rfl ?_
  refine gf_i zfd_2_7 q1417  (fun _ h9 => h9) dX2_nextToken_2 h (fun v5 h => ?_)
  refine g_cVRv (rv := fun x : Int32 => Value.int x) [.int v5] (fun x0 e0 => ok_X2_byteAt (xl X) g m4 a0 v5 x0 e0) zc2 (by decide) (lw_V q1573 q1575 qs59 q126 q1576) rfl hy_X2_byteAt rfl ⟨by decide, by decide⟩ rfl zc_0 (by decide) dX2_nextToken_5 h (fun v6 h => ?_)
  refine g_bipush (v := (32 : Int32)) dX2_nextToken_8 (by decide) ?_
  obtain ⟨o7, h1, hl7, hr7⟩ := zEx_e h
  have K7 : o7 = .inr () → zG X cX2_nextToken 2 "QuiverKinModel" "nextToken" 2 41 26 [(0, va_rf a0)] [] g m4 := by
    intro e
    have h := hr7 _ e
    refine g_aload_n dX2_nextToken_26 0 rfl ?_
    refine g_dup dX2_nextToken_27 (zcat_r _) ?_
    refine gf_i zfd_2_7 q1417  (fun _ h9 => h9) dX2_nextToken_28 h (fun v10 h => ?_)
    refine g_iconst (v := (1 : Int32)) dX2_nextToken_31 (by decide) ?_
    refine g_iadd dX2_nextToken_32 ?_
    refine gp_i zpd_2_7 q1417 (fun _ h9 => h9) dX2_nextToken_33 h (fun m11 h => ?_)
    refine g_goto 0 dX2_nextToken_36 (by decide) ?_
    refine zG.sub [0] rfl ?_
    have e := Option.some.inj h
    exact K3 _ e.symm
  have h := h1
  refine g_icmp_eq 26 dX2_nextToken_10 (by decide) (fun c => ?_) (fun c => ?_)
  · have h := zite_p h c
    refine zG.sub [0] rfl ?_
    have e := Option.some.inj h
    exact K7 e.symm
  · have h := zite_n h c
    refine g_aload_n dX2_nextToken_13 0 rfl ?_
    refine g_aload_n dX2_nextToken_14 0 rfl ?_
    refine gf_i zfd_2_7 q1417  (fun _ h9 => h9) dX2_nextToken_15 h (fun v8 h => ?_)
    refine g_cVRv (rv := fun x : Int32 => Value.int x) [.int v8] (fun x0 e0 => ok_X2_byteAt (xl X) g m4 a0 v8 x0 e0) zc2 (by decide) (lw_V q1573 q1575 qs59 q126 q1576) rfl hy_X2_byteAt rfl ⟨by decide, by decide⟩ rfl zc_0 (by decide) dX2_nextToken_18 h (fun v9 h => ?_)
    refine g_bipush (v := (10 : Int32)) dX2_nextToken_21 (by decide) ?_
    refine g_icmp_ne 39 dX2_nextToken_23 (by decide) (fun c => ?_) (fun c => ?_)
    · have h := zite_n h c
      refine zG.sub [0] rfl ?_
      have e := Option.some.inj h
      have e := hl7 _ e.symm
      have e := hl3 _ e.symm
      exact K1 _ e.symm
    · have h := zite_p h c
      refine zG.sub [0] rfl ?_
      have e := Option.some.inj h
      exact K7 e.symm
/-! QuiverKinModel.figure -/
def f_X2_figure (g : zGd) (m : zMm) (a0 : Option Nat) (a1 : Int32) (a2 : Int32) (a3 : Int32) : Option (Int32 × zMm) :=
(zgi g m 2 9 a0).bind fun v1 =>
if v1 = (1 : Int32) then ((zgi g m 2 10 a0).bind fun v2 =>
(f_X2_isIn v2 a2 a3).bind fun v3 =>
if v3 = 0 then (some (((2 : Int32), m)))
else ((zgr g m 2 2 a0).bind fun r4 =>
(zgi g m 2 10 a0).bind fun v5 =>
(zast 101 g m r4 a1 v5).bind fun m6 =>
(zrc g 2 a0 (f_X2_nextToken g m6 a0)).bind fun m7 =>
some (((0 : Int32), m7))))
else (some (((1 : Int32), m)))
theorem hy_X2_figure : zHy yX2_figure 3 := ⟨by decide, by decide, by decide +kernel⟩
set_option maxHeartbeats 4000000 in
theorem ok_X2_figure (l : Launch) (g : zGd) (m : zMm) (a0 : Option Nat) (a1 : Int32) (a2 : Int32) (a3 : Int32) (z0 : Int32) (m0 : zMm) (h : f_X2_figure g m a0 a1 a2 a3 = some (z0, m0)) : zCT l yX2_figure cX2_figure 4 (some .int) 3 62 g m [va_rf a0, .int a1, .int a2, .int a3] (some (.int z0)) g m0 := by
  refine zCT.of (own := "QuiverKinModel") (mn := "figure") (by decide +kernel) rfl rfl (zla_r (zla_i (zla_i (zla_i zla_0)))) (zls_r (zls_i (zls_i (zls_i zls_0)))) (by decide) (fun X hxl hxg hxf hxt hxr hxn => ?_)
  have Kret : ∀ (y0 : Int32) (y1 : zMm), (y0, y1) = (z0, m0) → zRe X g y1 (some (.int y0)) := by
    intro y0 y1 e; cases e; exact ⟨hxf, hxr, hxn⟩
  subst hxl
  show zG X cX2_figure 4 "QuiverKinModel" "figure" 3 62 0 [(0, va_rf a0), (1, .int a1), (2, .int a2), (3, .int a3)] [] g m
  unfold f_X2_figure at h
  refine g_aload_n dX2_figure_0 0 rfl ?_
  refine gf_i zfd_2_9 q1419  (fun _ h9 => h9) dX2_figure_1 h (fun v1 h => ?_)
  refine g_iconst (v := (1 : Int32)) dX2_figure_4 (by decide) ?_
  refine g_icmp_eq 10 dX2_figure_5 (by decide) (fun c => ?_) (fun c => ?_)
  · have h := zite_p h c
    refine g_aload_n dX2_figure_10 0 rfl ?_
    refine gf_i zfd_2_10 q1420  (fun _ h9 => h9) dX2_figure_11 h (fun v2 h => ?_)
    refine g_iload_n dX2_figure_14 2 rfl ?_
    refine g_iload_n dX2_figure_15 3 rfl ?_
    refine g_cSRv (rv := fun x : Int32 => Value.int x) [.int v2, .int a2, .int a3] (fun x0 e0 => ok_X2_isIn (xl X) g m v2 a2 a3 x0 e0) (lw_S q1534 q1535 q126 q1536) hy_X2_isIn rfl ⟨by decide, by decide⟩ rfl zc_0 (by decide) dX2_figure_16 h (fun v3 h => ?_)
    refine g_if_ne 24 dX2_figure_19 (by decide) (fun c => ?_) (fun c => ?_)
    · have h := zite_n h c
      refine g_aload_n dX2_figure_24 0 rfl ?_
      refine gf_r zfd_2_2 q1412  (fun _ h9 => h9) dX2_figure_25 h (fun r4 h => ?_)
      refine g_iload_n dX2_figure_28 1 rfl ?_
      refine g_aload_n dX2_figure_29 0 rfl ?_
      refine gf_i zfd_2_10 q1420  (fun _ h9 => h9) dX2_figure_30 h (fun v5 h => ?_)
      refine g_iast dX2_figure_33 h (fun m6 h => ?_)
      refine g_aload_n dX2_figure_34 0 rfl ?_
      refine g_cVMn [] (fun m0 e0 => ok_X2_nextToken (xl X) g m6 a0 m0 e0) zc2 (by decide) (lw_V q1569 q1571 qs58 q126 q1572) rfl hy_X2_nextToken rfl ⟨by decide, by decide⟩ rfl zc_0 (by decide) dX2_figure_35 h (fun m7 h => ?_)
      refine g_iconst (v := (0 : Int32)) dX2_figure_38 (by decide) ?_
      refine g_iret dX2_figure_39 hxt ?_
      have e := Option.some.inj h
      exact Kret _ _ e
    · have h := zite_p h c
      refine g_iconst (v := (2 : Int32)) dX2_figure_22 (by decide) ?_
      refine g_iret dX2_figure_23 hxt ?_
      have e := Option.some.inj h
      exact Kret _ _ e
  · have h := zite_n h c
    refine g_iconst (v := (1 : Int32)) dX2_figure_8 (by decide) ?_
    refine g_iret dX2_figure_9 hxt ?_
    have e := Option.some.inj h
    exact Kret _ _ e
/-! QuiverKinModel.emit -/
def f_X2_emit (g : zGd) (m : zMm) (a0 : Option Nat) (a1 : Int32) (a2 : Int32) : Option (zMm) :=
(zgr g m 2 2 a0).bind fun r1 =>
(zgi g m 2 12 a0).bind fun v2 =>
(zgi g m 2 13 a0).bind fun v3 =>
(zast 101 g m r1 ((v2 + (73 : Int32)) + ((2 : Int32) * v3)) a1).bind fun m4 =>
(zgr g m4 2 2 a0).bind fun r5 =>
(zgi g m4 2 12 a0).bind fun v6 =>
(zgi g m4 2 13 a0).bind fun v7 =>
(zast 101 g m4 r5 (((v6 + (73 : Int32)) + ((2 : Int32) * v7)) + (1 : Int32)) a2).bind fun m8 =>
(zgi g m8 2 13 a0).bind fun v9 =>
(zpi g m8 2 13 a0 (v9 + (1 : Int32))).bind fun m10 =>
some (m10)
theorem hy_X2_emit : zHy yX2_emit 2 := ⟨by decide, by decide, by decide +kernel⟩
set_option maxHeartbeats 4000000 in
theorem ok_X2_emit (l : Launch) (g : zGd) (m : zMm) (a0 : Option Nat) (a1 : Int32) (a2 : Int32) (m0 : zMm) (h : f_X2_emit g m a0 a1 a2 = some m0) : zCT l yX2_emit cX2_emit 3 none 1 20 g m [va_rf a0, .int a1, .int a2] none g m0 := by
  refine zCT.of (own := "QuiverKinModel") (mn := "emit") (by decide +kernel) rfl rfl (zla_r (zla_i (zla_i zla_0))) (zls_r (zls_i (zls_i zls_0))) (by decide) (fun X hxl hxg hxf hxt hxr hxn => ?_)
  have Kret : ∀ (y0 : zMm), y0 = m0 → zRe X g y0 none := by
    intro y0 e; cases e; exact ⟨hxf, hxr, hxn⟩
  subst hxl
  show zG X cX2_emit 3 "QuiverKinModel" "emit" 1 20 0 [(0, va_rf a0), (1, .int a1), (2, .int a2)] [] g m
  unfold f_X2_emit at h
  refine g_aload_n dX2_emit_0 0 rfl ?_
  refine gf_r zfd_2_2 q1412  (fun _ h9 => h9) dX2_emit_1 h (fun r1 h => ?_)
  refine g_aload_n dX2_emit_4 0 rfl ?_
  refine gf_i zfd_2_12 q1422  (fun _ h9 => h9) dX2_emit_5 h (fun v2 h => ?_)
  refine g_bipush (v := (73 : Int32)) dX2_emit_8 (by decide) ?_
  refine g_iadd dX2_emit_10 ?_
  refine g_iconst (v := (2 : Int32)) dX2_emit_11 (by decide) ?_
  refine g_aload_n dX2_emit_12 0 rfl ?_
  refine gf_i zfd_2_13 q1423  (fun _ h9 => h9) dX2_emit_13 h (fun v3 h => ?_)
  refine g_imul dX2_emit_16 ?_
  refine g_iadd dX2_emit_17 ?_
  refine g_iload_n dX2_emit_18 1 rfl ?_
  refine g_iast dX2_emit_19 h (fun m4 h => ?_)
  refine g_aload_n dX2_emit_20 0 rfl ?_
  refine gf_r zfd_2_2 q1412  (fun _ h9 => h9) dX2_emit_21 h (fun r5 h => ?_)
  refine g_aload_n dX2_emit_24 0 rfl ?_
  refine gf_i zfd_2_12 q1422  (fun _ h9 => h9) dX2_emit_25 h (fun v6 h => ?_)
  refine g_bipush (v := (73 : Int32)) dX2_emit_28 (by decide) ?_
  refine g_iadd dX2_emit_30 ?_
  refine g_iconst (v := (2 : Int32)) dX2_emit_31 (by decide) ?_
  refine g_aload_n dX2_emit_32 0 rfl ?_
  refine gf_i zfd_2_13 q1423  (fun _ h9 => h9) dX2_emit_33 h (fun v7 h => ?_)
  refine g_imul dX2_emit_36 ?_
  refine g_iadd dX2_emit_37 ?_
  refine g_iconst (v := (1 : Int32)) dX2_emit_38 (by decide) ?_
  refine g_iadd dX2_emit_39 ?_
  refine g_iload_n dX2_emit_40 2 rfl ?_
  refine g_iast dX2_emit_41 h (fun m8 h => ?_)
  refine g_aload_n dX2_emit_42 0 rfl ?_
  refine g_dup dX2_emit_43 (zcat_r _) ?_
  refine gf_i zfd_2_13 q1423  (fun _ h9 => h9) dX2_emit_44 h (fun v9 h => ?_)
  refine g_iconst (v := (1 : Int32)) dX2_emit_47 (by decide) ?_
  refine g_iadd dX2_emit_48 ?_
  refine gp_i zpd_2_13 q1423 (fun _ h9 => h9) dX2_emit_49 h (fun m10 h => ?_)
  refine g_vret dX2_emit_52 hxt ?_
  have e := Option.some.inj h
  exact Kret _ e
/-! QuiverKinModel.openAt -/
def b_X2_openAt_7 (g : zGd) (m : zMm) (a0 : Option Nat) : Int32 → Option ((Int32) ⊕ (Int32)) := fun v6 =>
if v6 < 0 then (some (.inl v6))
else ((zgr g m 2 15 a0).bind fun r7 =>
(zald 101 g m r7 v6).bind fun v8 =>
if (40 : Int32) ≤ v8 then (some (.inl v6))
else (zlt (v6 + (-1 : Int32)) fun v9 =>
some (.inr v9)))
def f_X2_openAt (g : zGd) (m : zMm) (a0 : Option Nat) : Option (Int32) :=
(zgi g m 2 16 a0).bind fun v1 =>
zlt (v1 - (1 : Int32)) fun v2 =>
(zLoop (b_X2_openAt_7 g m a0) zFuel v2).bind fun v4 =>
some (v4)
theorem hy_X2_openAt : zHy yX2_openAt 0 := ⟨by decide, by decide, by decide +kernel⟩
set_option maxHeartbeats 4000000 in
theorem ok_X2_openAt (l : Launch) (g : zGd) (m : zMm) (a0 : Option Nat) (z0 : Int32) (h : f_X2_openAt g m a0 = some z0) : zCT l yX2_openAt cX2_openAt 2 (some .int) 1 20 g m [va_rf a0] (some (.int z0)) g m := by
  refine zCT.of (own := "QuiverKinModel") (mn := "openAt") (by decide +kernel) rfl rfl (zla_r zla_0) (zls_r zls_0) (by decide) (fun X hxl hxg hxf hxt hxr hxn => ?_)
  have Kret : ∀ (y0 : Int32), y0 = z0 → zRe X g m (some (.int y0)) := by
    intro y0 e; cases e; exact ⟨hxf, hxr, hxn⟩
  subst hxl
  show zG X cX2_openAt 2 "QuiverKinModel" "openAt" 1 20 0 [(0, va_rf a0)] [] g m
  unfold f_X2_openAt at h
  refine g_aload_n dX2_openAt_0 0 rfl ?_
  refine gf_i zfd_2_16 q1426  (fun _ h9 => h9) dX2_openAt_1 h (fun v1 h => ?_)
  refine g_iconst (v := (1 : Int32)) dX2_openAt_4 (by decide) ?_
  refine g_isub dX2_openAt_5 ?_
  refine g_leti h (fun v2 h => ?_)
  refine g_istore_n [(1, .int v2), (0, va_rf a0)] dX2_openAt_6 (by decide) (zf_r zf_0) rfl ?_
  obtain ⟨o3, h1, h2⟩ := zB_e h
  have K3 : ∀ (v4 : Int32), o3 = v4 → zG X cX2_openAt 2 "QuiverKinModel" "openAt" 1 20 28 [(1, .int v4)] [] g m := by
    intro v4 e
    rw [e] at h2
    have h := h2
    refine g_iload_n dX2_openAt_28 0 rfl ?_
    refine g_iret dX2_openAt_29 hxt ?_
    have e := Option.some.inj h
    exact Kret _ e
  refine zG.sub [1, 0] rfl ?_
  refine zLoop_ok (Φ := (fun v6 : Int32 => zG X cX2_openAt 2 "QuiverKinModel" "openAt" 1 20 7 [(0, va_rf a0), (1, .int v6)] [] g m)) o3 ?_ zFuel _ h1
  rintro v6 x5 h hl5 hr5
  unfold b_X2_openAt_7 at h
  have K5 : ∀ (v6 : Int32), x5 = .inr v6 → zG X cX2_openAt 2 "QuiverKinModel" "openAt" 1 20 7 [(0, va_rf a0), (1, .int v6)] [] g m := by
    intro v6 e
    exact hr5 _ e
  show zG X cX2_openAt 2 "QuiverKinModel" "openAt" 1 20 7 [(0, va_rf a0), (1, .int v6)] [] g m
  refine g_iload_n dX2_openAt_7 1 rfl ?_
  refine g_if_lt 28 dX2_openAt_8 (by decide) (fun c => ?_) (fun c => ?_)
  · have h := zite_p h c
    refine zG.sub [1] rfl ?_
    have e := Option.some.inj h
    have e := hl5 _ e.symm
    exact K3 _ e.symm
  · have h := zite_n h c
    refine g_aload_n dX2_openAt_11 0 rfl ?_
    refine gf_r zfd_2_15 q1425  (fun _ h9 => h9) dX2_openAt_12 h (fun r7 h => ?_)
    refine g_iload_n dX2_openAt_15 1 rfl ?_
    refine g_iald dX2_openAt_16 h (fun v8 h => ?_)
    refine g_bipush (v := (40 : Int32)) dX2_openAt_17 (by decide) ?_
    refine g_icmp_ge 28 dX2_openAt_19 (by decide) (fun c => ?_) (fun c => ?_)
    · have h := zite_p h c
      refine zG.sub [1] rfl ?_
      have e := Option.some.inj h
      have e := hl5 _ e.symm
      exact K3 _ e.symm
    · have h := zite_n h c
      refine g_iinc (v := (-1 : Int32)) [(0, va_rf a0)] dX2_openAt_22 1 rfl (by decide) (by decide) (zf_r (zf_i zf_0)) rfl h (fun v9 h => ?_)
      refine g_goto 7 dX2_openAt_25 (by decide) ?_
      refine zG.sub [1, 0] rfl ?_
      have e := Option.some.inj h
      exact K5 _ e.symm
/-! QuiverKinModel.openNow -/
def f_X2_openNow (g : zGd) (m : zMm) (a0 : Option Nat) : Option (Int32) :=
(zrc g 2 a0 (f_X2_openAt g m a0)).bind fun v1 =>
if 0 ≤ v1 then ((zgr g m 2 15 a0).bind fun r2 =>
(zrc g 2 a0 (f_X2_openAt g m a0)).bind fun v3 =>
(zald 101 g m r2 v3).bind fun v4 =>
some (v4))
else (some ((-1 : Int32)))
theorem hy_X2_openNow : zHy yX2_openNow 0 := ⟨by decide, by decide, by decide +kernel⟩
set_option maxHeartbeats 4000000 in
theorem ok_X2_openNow (l : Launch) (g : zGd) (m : zMm) (a0 : Option Nat) (z0 : Int32) (h : f_X2_openNow g m a0 = some z0) : zCT l yX2_openNow cX2_openNow 1 (some .int) 2 41 g m [va_rf a0] (some (.int z0)) g m := by
  refine zCT.of (own := "QuiverKinModel") (mn := "openNow") (by decide +kernel) rfl rfl (zla_r zla_0) (zls_r zls_0) (by decide) (fun X hxl hxg hxf hxt hxr hxn => ?_)
  have Kret : ∀ (y0 : Int32), y0 = z0 → zRe X g m (some (.int y0)) := by
    intro y0 e; cases e; exact ⟨hxf, hxr, hxn⟩
  subst hxl
  show zG X cX2_openNow 1 "QuiverKinModel" "openNow" 2 41 0 [(0, va_rf a0)] [] g m
  unfold f_X2_openNow at h
  refine g_aload_n dX2_openNow_0 0 rfl ?_
  refine g_cVRv (rv := fun x : Int32 => Value.int x) [] (fun x0 e0 => ok_X2_openAt (xl X) g m a0 x0 e0) zc2 (by decide) (lw_V q1654 q1656 qs72 q126 q1657) rfl hy_X2_openAt rfl ⟨by decide, by decide⟩ rfl zc_0 (by decide) dX2_openNow_1 h (fun v1 h => ?_)
  refine g_if_ge 11 dX2_openNow_4 (by decide) (fun c => ?_) (fun c => ?_)
  · have h := zite_p h c
    refine g_aload_n dX2_openNow_11 0 rfl ?_
    refine gf_r zfd_2_15 q1425  (fun _ h9 => h9) dX2_openNow_12 h (fun r2 h => ?_)
    refine g_aload_n dX2_openNow_15 0 rfl ?_
    refine g_cVRv (rv := fun x : Int32 => Value.int x) [] (fun x0 e0 => ok_X2_openAt (xl X) g m a0 x0 e0) zc2 (by decide) (lw_V q1654 q1656 qs72 q126 q1657) rfl hy_X2_openAt rfl ⟨by decide, by decide⟩ rfl (zc_r zc_0) (by decide) dX2_openNow_16 h (fun v3 h => ?_)
    refine g_iald dX2_openNow_19 h (fun v4 h => ?_)
    refine g_iret dX2_openNow_20 hxt ?_
    have e := Option.some.inj h
    exact Kret _ e
  · have h := zite_n h c
    refine g_iconst (v := (-1 : Int32)) dX2_openNow_7 (by decide) ?_
    refine g_goto 20 dX2_openNow_8 (by decide) ?_
    refine g_iret dX2_openNow_20 hxt ?_
    have e := Option.some.inj h
    exact Kret _ e
/-! QuiverKinModel.rank -/
def f_X2_rank (a0 : Int32) : Option (Int32) :=
if a0 < (40 : Int32) then (if a0 = (22 : Int32) then (some ((1 : Int32)))
else (if a0 = (21 : Int32) then (some ((2 : Int32)))
else (if a0 = (20 : Int32) then (some ((3 : Int32)))
else (if a0 < (10 : Int32) then (if a0 < (8 : Int32) then (if a0 < (6 : Int32) then (some ((7 : Int32)))
else (some ((5 : Int32))))
else (some ((6 : Int32))))
else (some ((4 : Int32)))))))
else (some ((0 : Int32)))
theorem hy_X2_rank : zHy yX2_rank 1 := ⟨by decide, by decide, by decide +kernel⟩
set_option maxHeartbeats 4000000 in
theorem ok_X2_rank (l : Launch) (g : zGd) (m : zMm) (a0 : Int32) (z0 : Int32) (h : f_X2_rank a0 = some z0) : zCT l yX2_rank cX2_rank 1 (some .int) 1 20 g m [.int a0] (some (.int z0)) g m := by
  refine zCT.of (own := "QuiverKinModel") (mn := "rank") (by decide +kernel) rfl rfl (zla_i zla_0) (zls_i zls_0) (by decide) (fun X hxl hxg hxf hxt hxr hxn => ?_)
  have Kret : ∀ (y0 : Int32), y0 = z0 → zRe X g m (some (.int y0)) := by
    intro y0 e; cases e; exact ⟨hxf, hxr, hxn⟩
  subst hxl
  show zG X cX2_rank 1 "QuiverKinModel" "rank" 1 20 0 [(0, .int a0)] [] g m
  unfold f_X2_rank at h
  refine g_iload_n dX2_rank_0 0 rfl ?_
  refine g_bipush (v := (40 : Int32)) dX2_rank_1 (by decide) ?_
  refine g_icmp_lt 10 dX2_rank_3 (by decide) (fun c => ?_) (fun c => ?_)
  · have h := zite_p h c
    refine g_iload_n dX2_rank_10 0 rfl ?_
    refine g_bipush (v := (22 : Int32)) dX2_rank_11 (by decide) ?_
    refine g_icmp_ne 20 dX2_rank_13 (by decide) (fun c => ?_) (fun c => ?_)
    · have h := zite_n h c
      refine g_iload_n dX2_rank_20 0 rfl ?_
      refine g_bipush (v := (21 : Int32)) dX2_rank_21 (by decide) ?_
      refine g_icmp_ne 30 dX2_rank_23 (by decide) (fun c => ?_) (fun c => ?_)
      · have h := zite_n h c
        refine g_iload_n dX2_rank_30 0 rfl ?_
        refine g_bipush (v := (20 : Int32)) dX2_rank_31 (by decide) ?_
        refine g_icmp_ne 40 dX2_rank_33 (by decide) (fun c => ?_) (fun c => ?_)
        · have h := zite_n h c
          refine g_iload_n dX2_rank_40 0 rfl ?_
          refine g_bipush (v := (10 : Int32)) dX2_rank_41 (by decide) ?_
          refine g_icmp_lt 50 dX2_rank_43 (by decide) (fun c => ?_) (fun c => ?_)
          · have h := zite_p h c
            refine g_iload_n dX2_rank_50 0 rfl ?_
            refine g_bipush (v := (8 : Int32)) dX2_rank_51 (by decide) ?_
            refine g_icmp_lt 61 dX2_rank_53 (by decide) (fun c => ?_) (fun c => ?_)
            · have h := zite_p h c
              refine g_iload_n dX2_rank_61 0 rfl ?_
              refine g_bipush (v := (6 : Int32)) dX2_rank_62 (by decide) ?_
              refine g_icmp_lt 71 dX2_rank_64 (by decide) (fun c => ?_) (fun c => ?_)
              · have h := zite_p h c
                refine g_bipush (v := (7 : Int32)) dX2_rank_71 (by decide) ?_
                refine g_iret dX2_rank_73 hxt ?_
                have e := Option.some.inj h
                exact Kret _ e
              · have h := zite_n h c
                refine g_iconst (v := (5 : Int32)) dX2_rank_67 (by decide) ?_
                refine g_goto 73 dX2_rank_68 (by decide) ?_
                refine g_iret dX2_rank_73 hxt ?_
                have e := Option.some.inj h
                exact Kret _ e
            · have h := zite_n h c
              refine g_bipush (v := (6 : Int32)) dX2_rank_56 (by decide) ?_
              refine g_goto 73 dX2_rank_58 (by decide) ?_
              refine g_iret dX2_rank_73 hxt ?_
              have e := Option.some.inj h
              exact Kret _ e
          · have h := zite_n h c
            refine g_iconst (v := (4 : Int32)) dX2_rank_46 (by decide) ?_
            refine g_goto 73 dX2_rank_47 (by decide) ?_
            refine g_iret dX2_rank_73 hxt ?_
            have e := Option.some.inj h
            exact Kret _ e
        · have h := zite_p h c
          refine g_iconst (v := (3 : Int32)) dX2_rank_36 (by decide) ?_
          refine g_goto 73 dX2_rank_37 (by decide) ?_
          refine g_iret dX2_rank_73 hxt ?_
          have e := Option.some.inj h
          exact Kret _ e
      · have h := zite_p h c
        refine g_iconst (v := (2 : Int32)) dX2_rank_26 (by decide) ?_
        refine g_goto 73 dX2_rank_27 (by decide) ?_
        refine g_iret dX2_rank_73 hxt ?_
        have e := Option.some.inj h
        exact Kret _ e
    · have h := zite_p h c
      refine g_iconst (v := (1 : Int32)) dX2_rank_16 (by decide) ?_
      refine g_goto 73 dX2_rank_17 (by decide) ?_
      refine g_iret dX2_rank_73 hxt ?_
      have e := Option.some.inj h
      exact Kret _ e
  · have h := zite_n h c
    refine g_iconst (v := (0 : Int32)) dX2_rank_6 (by decide) ?_
    refine g_goto 73 dX2_rank_7 (by decide) ?_
    refine g_iret dX2_rank_73 hxt ?_
    have e := Option.some.inj h
    exact Kret _ e
/-! QuiverKinModel.isAskAhead -/
def f_X2_isAskAhead (g : zGd) (m : zMm) (a0 : Option Nat) : Option (Int32) :=
(zrc g 2 a0 (f_X2_openNow g m a0)).bind fun v1 =>
if v1 = (41 : Int32) then ((zgr g m 2 15 a0).bind fun r2 =>
(zgi g m 2 16 a0).bind fun v3 =>
(zald 101 g m r2 (v3 - (1 : Int32))).bind fun v4 =>
if (40 : Int32) ≤ v4 then (some ((1 : Int32)))
else ((zgr g m 2 15 a0).bind fun r5 =>
(zgi g m 2 16 a0).bind fun v6 =>
(zald 101 g m r5 (v6 - (1 : Int32))).bind fun v7 =>
(f_X2_rank v7).bind fun v8 =>
(f_X2_isIn v8 (1 : Int32) (3 : Int32)).bind fun v9 =>
if v9 = 0 then (some ((0 : Int32)))
else (some ((1 : Int32)))))
else (some ((0 : Int32)))
theorem hy_X2_isAskAhead : zHy yX2_isAskAhead 0 := ⟨by decide, by decide, by decide +kernel⟩
set_option maxHeartbeats 4000000 in
theorem ok_X2_isAskAhead (l : Launch) (g : zGd) (m : zMm) (a0 : Option Nat) (z0 : Int32) (h : f_X2_isAskAhead g m a0 = some z0) : zCT l yX2_isAskAhead cX2_isAskAhead 1 (some .boolean) 3 61 g m [va_rf a0] (some (.int z0)) g m := by
  refine zCT.of (own := "QuiverKinModel") (mn := "isAskAhead") (by decide +kernel) rfl rfl (zla_r zla_0) (zls_r zls_0) (by decide) (fun X hxl hxg hxf hxt hxr hxn => ?_)
  have Kret : ∀ (y0 : Int32), y0 = z0 → zRe X g m (some (.int y0)) := by
    intro y0 e; cases e; exact ⟨hxf, hxr, hxn⟩
  subst hxl
  show zG X cX2_isAskAhead 1 "QuiverKinModel" "isAskAhead" 3 61 0 [(0, va_rf a0)] [] g m
  unfold f_X2_isAskAhead at h
  refine g_aload_n dX2_isAskAhead_0 0 rfl ?_
  refine g_cVRv (rv := fun x : Int32 => Value.int x) [] (fun x0 e0 => ok_X2_openNow (xl X) g m a0 x0 e0) zc2 (by decide) (lw_V q1650 q1652 qs71 q126 q1653) rfl hy_X2_openNow rfl ⟨by decide, by decide⟩ rfl zc_0 (by decide) dX2_isAskAhead_1 h (fun v1 h => ?_)
  refine g_bipush (v := (41 : Int32)) dX2_isAskAhead_4 (by decide) ?_
  refine g_icmp_ne 51 dX2_isAskAhead_6 (by decide) (fun c => ?_) (fun c => ?_)
  · have h := zite_n h c
    refine g_iconst (v := (0 : Int32)) dX2_isAskAhead_51 (by decide) ?_
    refine g_zret dX2_isAskAhead_52 hxt rfl ?_
    have e := Option.some.inj h
    exact Kret _ e
  · have h := zite_p h c
    refine g_aload_n dX2_isAskAhead_9 0 rfl ?_
    refine gf_r zfd_2_15 q1425  (fun _ h9 => h9) dX2_isAskAhead_10 h (fun r2 h => ?_)
    refine g_aload_n dX2_isAskAhead_13 0 rfl ?_
    refine gf_i zfd_2_16 q1426  (fun _ h9 => h9) dX2_isAskAhead_14 h (fun v3 h => ?_)
    refine g_iconst (v := (1 : Int32)) dX2_isAskAhead_17 (by decide) ?_
    refine g_isub dX2_isAskAhead_18 ?_
    refine g_iald dX2_isAskAhead_19 h (fun v4 h => ?_)
    refine g_bipush (v := (40 : Int32)) dX2_isAskAhead_20 (by decide) ?_
    refine g_icmp_ge 47 dX2_isAskAhead_22 (by decide) (fun c => ?_) (fun c => ?_)
    · have h := zite_p h c
      refine g_iconst (v := (1 : Int32)) dX2_isAskAhead_47 (by decide) ?_
      refine g_goto 52 dX2_isAskAhead_48 (by decide) ?_
      refine g_zret dX2_isAskAhead_52 hxt rfl ?_
      have e := Option.some.inj h
      exact Kret _ e
    · have h := zite_n h c
      refine g_aload_n dX2_isAskAhead_25 0 rfl ?_
      refine gf_r zfd_2_15 q1425  (fun _ h9 => h9) dX2_isAskAhead_26 h (fun r5 h => ?_)
      refine g_aload_n dX2_isAskAhead_29 0 rfl ?_
      refine gf_i zfd_2_16 q1426  (fun _ h9 => h9) dX2_isAskAhead_30 h (fun v6 h => ?_)
      refine g_iconst (v := (1 : Int32)) dX2_isAskAhead_33 (by decide) ?_
      refine g_isub dX2_isAskAhead_34 ?_
      refine g_iald dX2_isAskAhead_35 h (fun v7 h => ?_)
      refine g_cSRv (rv := fun x : Int32 => Value.int x) [.int v7] (fun x0 e0 => ok_X2_rank (xl X) g m v7 x0 e0) (lw_S q1662 q1663 q126 q1664) hy_X2_rank rfl ⟨by decide, by decide⟩ rfl zc_0 (by decide) dX2_isAskAhead_36 h (fun v8 h => ?_)
      refine g_iconst (v := (1 : Int32)) dX2_isAskAhead_39 (by decide) ?_
      refine g_iconst (v := (3 : Int32)) dX2_isAskAhead_40 (by decide) ?_
      refine g_cSRv (rv := fun x : Int32 => Value.int x) [.int v8, .int (1 : Int32), .int (3 : Int32)] (fun x0 e0 => ok_X2_isIn (xl X) g m v8 (1 : Int32) (3 : Int32) x0 e0) (lw_S q1534 q1535 q126 q1536) hy_X2_isIn rfl ⟨by decide, by decide⟩ rfl zc_0 (by decide) dX2_isAskAhead_41 h (fun v9 h => ?_)
      refine g_if_eq 51 dX2_isAskAhead_44 (by decide) (fun c => ?_) (fun c => ?_)
      · have h := zite_p h c
        refine g_iconst (v := (0 : Int32)) dX2_isAskAhead_51 (by decide) ?_
        refine g_zret dX2_isAskAhead_52 hxt rfl ?_
        have e := Option.some.inj h
        exact Kret _ e
      · have h := zite_n h c
        refine g_iconst (v := (1 : Int32)) dX2_isAskAhead_47 (by decide) ?_
        refine g_goto 52 dX2_isAskAhead_48 (by decide) ?_
        refine g_zret dX2_isAskAhead_52 hxt rfl ?_
        have e := Option.some.inj h
        exact Kret _ e
/-! QuiverKinModel.isOf -/
def f_X2_isOf (g : zGd) (m : zMm) (a0 : Option Nat) (a1 : Int32) : Option (Int32) :=
if a1 < (5 : Int32) then (some ((1 : Int32)))
else (if a1 = (5 : Int32) then ((zgi g m 2 14 a0).bind fun v2 =>
if v2 = 0 then (some ((1 : Int32)))
else (some ((0 : Int32))))
else ((zgi g m 2 14 a0).bind fun v1 =>
if v1 = (1 : Int32) then (some ((1 : Int32)))
else (some ((0 : Int32)))))
theorem hy_X2_isOf : zHy yX2_isOf 1 := ⟨by decide, by decide, by decide +kernel⟩
set_option maxHeartbeats 4000000 in
theorem ok_X2_isOf (l : Launch) (g : zGd) (m : zMm) (a0 : Option Nat) (a1 : Int32) (z0 : Int32) (h : f_X2_isOf g m a0 a1 = some z0) : zCT l yX2_isOf cX2_isOf 2 (some .boolean) 1 20 g m [va_rf a0, .int a1] (some (.int z0)) g m := by
  refine zCT.of (own := "QuiverKinModel") (mn := "isOf") (by decide +kernel) rfl rfl (zla_r (zla_i zla_0)) (zls_r (zls_i zls_0)) (by decide) (fun X hxl hxg hxf hxt hxr hxn => ?_)
  have Kret : ∀ (y0 : Int32), y0 = z0 → zRe X g m (some (.int y0)) := by
    intro y0 e; cases e; exact ⟨hxf, hxr, hxn⟩
  subst hxl
  show zG X cX2_isOf 2 "QuiverKinModel" "isOf" 1 20 0 [(0, va_rf a0), (1, .int a1)] [] g m
  unfold f_X2_isOf at h
  refine g_iload_n dX2_isOf_0 1 rfl ?_
  refine g_iconst (v := (5 : Int32)) dX2_isOf_1 (by decide) ?_
  refine g_icmp_lt 28 dX2_isOf_2 (by decide) (fun c => ?_) (fun c => ?_)
  · have h := zite_p h c
    refine g_iconst (v := (1 : Int32)) dX2_isOf_28 (by decide) ?_
    refine g_goto 33 dX2_isOf_29 (by decide) ?_
    refine g_zret dX2_isOf_33 hxt rfl ?_
    have e := Option.some.inj h
    exact Kret _ e
  · have h := zite_n h c
    refine g_iload_n dX2_isOf_5 1 rfl ?_
    refine g_iconst (v := (5 : Int32)) dX2_isOf_6 (by decide) ?_
    refine g_icmp_ne 20 dX2_isOf_7 (by decide) (fun c => ?_) (fun c => ?_)
    · have h := zite_n h c
      refine g_aload_n dX2_isOf_20 0 rfl ?_
      refine gf_i zfd_2_14 q1424  (fun _ h9 => h9) dX2_isOf_21 h (fun v1 h => ?_)
      refine g_iconst (v := (1 : Int32)) dX2_isOf_24 (by decide) ?_
      refine g_icmp_ne 32 dX2_isOf_25 (by decide) (fun c => ?_) (fun c => ?_)
      · have h := zite_n h c
        refine g_iconst (v := (0 : Int32)) dX2_isOf_32 (by decide) ?_
        refine g_zret dX2_isOf_33 hxt rfl ?_
        have e := Option.some.inj h
        exact Kret _ e
      · have h := zite_p h c
        refine g_iconst (v := (1 : Int32)) dX2_isOf_28 (by decide) ?_
        refine g_goto 33 dX2_isOf_29 (by decide) ?_
        refine g_zret dX2_isOf_33 hxt rfl ?_
        have e := Option.some.inj h
        exact Kret _ e
    · have h := zite_p h c
      refine g_aload_n dX2_isOf_10 0 rfl ?_
      refine gf_i zfd_2_14 q1424  (fun _ h9 => h9) dX2_isOf_11 h (fun v2 h => ?_)
      refine g_if_ne 32 dX2_isOf_14 (by decide) (fun c => ?_) (fun c => ?_)
      · have h := zite_n h c
        refine g_iconst (v := (0 : Int32)) dX2_isOf_32 (by decide) ?_
        refine g_zret dX2_isOf_33 hxt rfl ?_
        have e := Option.some.inj h
        exact Kret _ e
      · have h := zite_p h c
        refine g_goto 28 dX2_isOf_17 (by decide) ?_
        refine g_iconst (v := (1 : Int32)) dX2_isOf_28 (by decide) ?_
        refine g_goto 33 dX2_isOf_29 (by decide) ?_
        refine g_zret dX2_isOf_33 hxt rfl ?_
        have e := Option.some.inj h
        exact Kret _ e
/-! QuiverKinModel.isWord -/
def f_X2_isWord (g : zGd) (m : zMm) (a0 : Option Nat) (a1 : Int64) : Option (Int32) :=
(zgi g m 2 9 a0).bind fun v1 =>
if v1 = (2 : Int32) then ((zgj g m 2 11 a0).bind fun w2 =>
if w2 = a1 then (some ((1 : Int32)))
else (some ((0 : Int32))))
else (some ((0 : Int32)))
theorem hy_X2_isWord : zHy yX2_isWord 1 := ⟨by decide, by decide, by decide +kernel⟩
set_option maxHeartbeats 4000000 in
theorem ok_X2_isWord (l : Launch) (g : zGd) (m : zMm) (a0 : Option Nat) (a1 : Int64) (z0 : Int32) (h : f_X2_isWord g m a0 a1 = some z0) : zCT l yX2_isWord cX2_isWord 3 (some .boolean) 1 20 g m [va_rf a0, .long a1] (some (.int z0)) g m := by
  refine zCT.of (own := "QuiverKinModel") (mn := "isWord") (by decide +kernel) rfl rfl (zla_r (zla_l zla_0)) (zls_r (zls_l zls_0)) (by decide) (fun X hxl hxg hxf hxt hxr hxn => ?_)
  have Kret : ∀ (y0 : Int32), y0 = z0 → zRe X g m (some (.int y0)) := by
    intro y0 e; cases e; exact ⟨hxf, hxr, hxn⟩
  subst hxl
  show zG X cX2_isWord 3 "QuiverKinModel" "isWord" 1 20 0 [(0, va_rf a0), (1, .long a1)] [] g m
  unfold f_X2_isWord at h
  refine g_aload_n dX2_isWord_0 0 rfl ?_
  refine gf_i zfd_2_9 q1419  (fun _ h9 => h9) dX2_isWord_1 h (fun v1 h => ?_)
  refine g_iconst (v := (2 : Int32)) dX2_isWord_4 (by decide) ?_
  refine g_icmp_ne 21 dX2_isWord_5 (by decide) (fun c => ?_) (fun c => ?_)
  · have h := zite_n h c
    refine g_iconst (v := (0 : Int32)) dX2_isWord_21 (by decide) ?_
    refine g_zret dX2_isWord_22 hxt rfl ?_
    have e := Option.some.inj h
    exact Kret _ e
  · have h := zite_p h c
    refine g_aload_n dX2_isWord_8 0 rfl ?_
    refine gf_j zfd_2_11 q1421  (fun _ h9 => h9) dX2_isWord_9 h (fun w2 h => ?_)
    refine g_lload_n dX2_isWord_12 1 rfl ?_
    refine g_lcmp_ne 21 dX2_isWord_13 dX2_isWord_14 (by decide) (fun c => ?_) (fun c => ?_)
    · have h := zite_n h c
      refine g_iconst (v := (0 : Int32)) dX2_isWord_21 (by decide) ?_
      refine g_zret dX2_isWord_22 hxt rfl ?_
      have e := Option.some.inj h
      exact Kret _ e
    · have h := zite_p h c
      refine g_iconst (v := (1 : Int32)) dX2_isWord_17 (by decide) ?_
      refine g_goto 22 dX2_isWord_18 (by decide) ?_
      refine g_zret dX2_isWord_22 hxt rfl ?_
      have e := Option.some.inj h
      exact Kret _ e
/-! QuiverKinModel.w2 -/
def f_X2_w2 (a0 : Int32) (a1 : Int32) : Option (Int64) :=
some (((zlshl (a0.toInt64) (8 : Int32)) ||| (a1.toInt64)))
theorem hy_X2_w2 : zHy yX2_w2 2 := ⟨by decide, by decide, by decide +kernel⟩
set_option maxHeartbeats 4000000 in
theorem ok_X2_w2 (l : Launch) (g : zGd) (m : zMm) (a0 : Int32) (a1 : Int32) (z0 : Int64) (h : f_X2_w2 a0 a1 = some z0) : zCT l yX2_w2 cX2_w2 2 (some .long) 1 20 g m [.int a0, .int a1] (some (.long z0)) g m := by
  refine zCT.of (own := "QuiverKinModel") (mn := "w2") (by decide +kernel) rfl rfl (zla_i (zla_i zla_0)) (zls_i (zls_i zls_0)) (by decide) (fun X hxl hxg hxf hxt hxr hxn => ?_)
  have Kret : ∀ (y0 : Int64), y0 = z0 → zRe X g m (some (.long y0)) := by
    intro y0 e; cases e; exact ⟨hxf, hxr, hxn⟩
  subst hxl
  show zG X cX2_w2 2 "QuiverKinModel" "w2" 1 20 0 [(0, .int a0), (1, .int a1)] [] g m
  unfold f_X2_w2 at h
  refine g_iload_n dX2_w2_0 0 rfl ?_
  refine g_i2l dX2_w2_1 ?_
  refine g_bipush (v := (8 : Int32)) dX2_w2_2 (by decide) ?_
  refine g_lshl dX2_w2_4 ?_
  refine g_iload_n dX2_w2_5 1 rfl ?_
  refine g_i2l dX2_w2_6 ?_
  refine g_lor dX2_w2_7 ?_
  refine g_lret dX2_w2_8 hxt ?_
  have e := Option.some.inj h
  exact Kret _ e
/-! QuiverKinModel.w3 -/
def f_X2_w3 (a0 : Int32) (a1 : Int32) (a2 : Int32) : Option (Int64) :=
(f_X2_w2 a0 a1).bind fun w1 =>
some (((zlshl w1 (8 : Int32)) ||| (a2.toInt64)))
theorem hy_X2_w3 : zHy yX2_w3 3 := ⟨by decide, by decide, by decide +kernel⟩
set_option maxHeartbeats 4000000 in
theorem ok_X2_w3 (l : Launch) (g : zGd) (m : zMm) (a0 : Int32) (a1 : Int32) (a2 : Int32) (z0 : Int64) (h : f_X2_w3 a0 a1 a2 = some z0) : zCT l yX2_w3 cX2_w3 3 (some .long) 2 41 g m [.int a0, .int a1, .int a2] (some (.long z0)) g m := by
  refine zCT.of (own := "QuiverKinModel") (mn := "w3") (by decide +kernel) rfl rfl (zla_i (zla_i (zla_i zla_0))) (zls_i (zls_i (zls_i zls_0))) (by decide) (fun X hxl hxg hxf hxt hxr hxn => ?_)
  have Kret : ∀ (y0 : Int64), y0 = z0 → zRe X g m (some (.long y0)) := by
    intro y0 e; cases e; exact ⟨hxf, hxr, hxn⟩
  subst hxl
  show zG X cX2_w3 3 "QuiverKinModel" "w3" 2 41 0 [(0, .int a0), (1, .int a1), (2, .int a2)] [] g m
  unfold f_X2_w3 at h
  refine g_iload_n dX2_w3_0 0 rfl ?_
  refine g_iload_n dX2_w3_1 1 rfl ?_
  refine g_cSRv (rv := fun x : Int64 => Value.long x) [.int a0, .int a1] (fun x0 e0 => ok_X2_w2 (xl X) g m a0 a1 x0 e0) (lw_S q1606 q1607 q126 q1608) hy_X2_w2 rfl ⟨by decide, by decide⟩ rfl zc_0 (by decide) dX2_w3_2 h (fun w1 h => ?_)
  refine g_bipush (v := (8 : Int32)) dX2_w3_5 (by decide) ?_
  refine g_lshl dX2_w3_7 ?_
  refine g_iload_n dX2_w3_8 2 rfl ?_
  refine g_i2l dX2_w3_9 ?_
  refine g_lor dX2_w3_10 ?_
  refine g_lret dX2_w3_11 hxt ?_
  have e := Option.some.inj h
  exact Kret _ e
/-! QuiverKinModel.w4 -/
def f_X2_w4 (a0 : Int32) (a1 : Int32) (a2 : Int32) (a3 : Int32) : Option (Int64) :=
(f_X2_w3 a0 a1 a2).bind fun w1 =>
some (((zlshl w1 (8 : Int32)) ||| (a3.toInt64)))
theorem hy_X2_w4 : zHy yX2_w4 4 := ⟨by decide, by decide, by decide +kernel⟩
set_option maxHeartbeats 4000000 in
theorem ok_X2_w4 (l : Launch) (g : zGd) (m : zMm) (a0 : Int32) (a1 : Int32) (a2 : Int32) (a3 : Int32) (z0 : Int64) (h : f_X2_w4 a0 a1 a2 a3 = some z0) : zCT l yX2_w4 cX2_w4 4 (some .long) 3 63 g m [.int a0, .int a1, .int a2, .int a3] (some (.long z0)) g m := by
  refine zCT.of (own := "QuiverKinModel") (mn := "w4") (by decide +kernel) rfl rfl (zla_i (zla_i (zla_i (zla_i zla_0)))) (zls_i (zls_i (zls_i (zls_i zls_0)))) (by decide) (fun X hxl hxg hxf hxt hxr hxn => ?_)
  have Kret : ∀ (y0 : Int64), y0 = z0 → zRe X g m (some (.long y0)) := by
    intro y0 e; cases e; exact ⟨hxf, hxr, hxn⟩
  subst hxl
  show zG X cX2_w4 4 "QuiverKinModel" "w4" 3 63 0 [(0, .int a0), (1, .int a1), (2, .int a2), (3, .int a3)] [] g m
  unfold f_X2_w4 at h
  refine g_iload_n dX2_w4_0 0 rfl ?_
  refine g_iload_n dX2_w4_1 1 rfl ?_
  refine g_iload_n dX2_w4_2 2 rfl ?_
  refine g_cSRv (rv := fun x : Int64 => Value.long x) [.int a0, .int a1, .int a2] (fun x0 e0 => ok_X2_w3 (xl X) g m a0 a1 a2 x0 e0) (lw_S q1603 q1604 q126 q1605) hy_X2_w3 rfl ⟨by decide, by decide⟩ rfl zc_0 (by decide) dX2_w4_3 h (fun w1 h => ?_)
  refine g_bipush (v := (8 : Int32)) dX2_w4_6 (by decide) ?_
  refine g_lshl dX2_w4_8 ?_
  refine g_iload_n dX2_w4_9 3 rfl ?_
  refine g_i2l dX2_w4_10 ?_
  refine g_lor dX2_w4_11 ?_
  refine g_lret dX2_w4_12 hxt ?_
  have e := Option.some.inj h
  exact Kret _ e
/-! QuiverKinModel.w5 -/
def f_X2_w5 (a0 : Int32) (a1 : Int32) (a2 : Int32) (a3 : Int32) (a4 : Int32) : Option (Int64) :=
(f_X2_w4 a0 a1 a2 a3).bind fun w1 =>
some (((zlshl w1 (8 : Int32)) ||| (a4.toInt64)))
theorem hy_X2_w5 : zHy yX2_w5 5 := ⟨by decide, by decide, by decide +kernel⟩
set_option maxHeartbeats 4000000 in
theorem ok_X2_w5 (l : Launch) (g : zGd) (m : zMm) (a0 : Int32) (a1 : Int32) (a2 : Int32) (a3 : Int32) (a4 : Int32) (z0 : Int64) (h : f_X2_w5 a0 a1 a2 a3 a4 = some z0) : zCT l yX2_w5 cX2_w5 5 (some .long) 4 86 g m [.int a0, .int a1, .int a2, .int a3, .int a4] (some (.long z0)) g m := by
  refine zCT.of (own := "QuiverKinModel") (mn := "w5") (by decide +kernel) rfl rfl (zla_i (zla_i (zla_i (zla_i (zla_i zla_0))))) (zls_i (zls_i (zls_i (zls_i (zls_i zls_0))))) (by decide) (fun X hxl hxg hxf hxt hxr hxn => ?_)
  have Kret : ∀ (y0 : Int64), y0 = z0 → zRe X g m (some (.long y0)) := by
    intro y0 e; cases e; exact ⟨hxf, hxr, hxn⟩
  subst hxl
  show zG X cX2_w5 5 "QuiverKinModel" "w5" 4 86 0 [(0, .int a0), (1, .int a1), (2, .int a2), (3, .int a3), (4, .int a4)] [] g m
  unfold f_X2_w5 at h
  refine g_iload_n dX2_w5_0 0 rfl ?_
  refine g_iload_n dX2_w5_1 1 rfl ?_
  refine g_iload_n dX2_w5_2 2 rfl ?_
  refine g_iload_n dX2_w5_3 3 rfl ?_
  refine g_cSRv (rv := fun x : Int64 => Value.long x) [.int a0, .int a1, .int a2, .int a3] (fun x0 e0 => ok_X2_w4 (xl X) g m a0 a1 a2 a3 x0 e0) (lw_S q1600 q1601 q126 q1602) hy_X2_w4 rfl ⟨by decide, by decide⟩ rfl zc_0 (by decide) dX2_w5_4 h (fun w1 h => ?_)
  refine g_bipush (v := (8 : Int32)) dX2_w5_7 (by decide) ?_
  refine g_lshl dX2_w5_9 ?_
  refine g_iload dX2_w5_10 4 rfl ?_
  refine g_i2l dX2_w5_12 ?_
  refine g_lor dX2_w5_13 ?_
  refine g_lret dX2_w5_14 hxt ?_
  have e := Option.some.inj h
  exact Kret _ e
/-! QuiverKinModel.w6 -/
def f_X2_w6 (a0 : Int32) (a1 : Int32) (a2 : Int32) (a3 : Int32) (a4 : Int32) (a5 : Int32) : Option (Int64) :=
(f_X2_w5 a0 a1 a2 a3 a4).bind fun w1 =>
some (((zlshl w1 (8 : Int32)) ||| (a5.toInt64)))
theorem hy_X2_w6 : zHy yX2_w6 6 := ⟨by decide, by decide, by decide +kernel⟩
set_option maxHeartbeats 4000000 in
theorem ok_X2_w6 (l : Launch) (g : zGd) (m : zMm) (a0 : Int32) (a1 : Int32) (a2 : Int32) (a3 : Int32) (a4 : Int32) (a5 : Int32) (z0 : Int64) (h : f_X2_w6 a0 a1 a2 a3 a4 a5 = some z0) : zCT l yX2_w6 cX2_w6 6 (some .long) 5 110 g m [.int a0, .int a1, .int a2, .int a3, .int a4, .int a5] (some (.long z0)) g m := by
  refine zCT.of (own := "QuiverKinModel") (mn := "w6") (by decide +kernel) rfl rfl (zla_i (zla_i (zla_i (zla_i (zla_i (zla_i zla_0)))))) (zls_i (zls_i (zls_i (zls_i (zls_i (zls_i zls_0)))))) (by decide) (fun X hxl hxg hxf hxt hxr hxn => ?_)
  have Kret : ∀ (y0 : Int64), y0 = z0 → zRe X g m (some (.long y0)) := by
    intro y0 e; cases e; exact ⟨hxf, hxr, hxn⟩
  subst hxl
  show zG X cX2_w6 6 "QuiverKinModel" "w6" 5 110 0 [(0, .int a0), (1, .int a1), (2, .int a2), (3, .int a3), (4, .int a4), (5, .int a5)] [] g m
  unfold f_X2_w6 at h
  refine g_iload_n dX2_w6_0 0 rfl ?_
  refine g_iload_n dX2_w6_1 1 rfl ?_
  refine g_iload_n dX2_w6_2 2 rfl ?_
  refine g_iload_n dX2_w6_3 3 rfl ?_
  refine g_iload dX2_w6_4 4 rfl ?_
  refine g_cSRv (rv := fun x : Int64 => Value.long x) [.int a0, .int a1, .int a2, .int a3, .int a4] (fun x0 e0 => ok_X2_w5 (xl X) g m a0 a1 a2 a3 a4 x0 e0) (lw_S q1609 q1610 q126 q1611) hy_X2_w5 rfl ⟨by decide, by decide⟩ rfl zc_0 (by decide) dX2_w6_6 h (fun w1 h => ?_)
  refine g_bipush (v := (8 : Int32)) dX2_w6_9 (by decide) ?_
  refine g_lshl dX2_w6_11 ?_
  refine g_iload dX2_w6_12 5 rfl ?_
  refine g_i2l dX2_w6_14 ?_
  refine g_lor dX2_w6_15 ?_
  refine g_lret dX2_w6_16 hxt ?_
  have e := Option.some.inj h
  exact Kret _ e
/-! QuiverKinModel.nameOf -/
def f_X2_nameOf (g : zGd) (m : zMm) (a0 : Option Nat) : Option (Int32) :=
(zgi g m 2 9 a0).bind fun v1 =>
if v1 = (2 : Int32) then ((zgj g m 2 11 a0).bind fun w2 =>
(f_X2_w6 (100 : Int32) (105 : Int32) (110 : Int32) (110 : Int32) (101 : Int32) (114 : Int32)).bind fun w3 =>
if w2 = w3 then (some ((0 : Int32)))
else ((zgj g m 2 11 a0).bind fun w4 =>
(f_X2_w3 (119 : Int32) (104 : Int32) (111 : Int32)).bind fun w5 =>
if w4 = w5 then (some ((1 : Int32)))
else ((zgj g m 2 11 a0).bind fun w6 =>
(f_X2_w6 (116 : Int32) (101 : Int32) (109 : Int32) (112 : Int32) (101 : Int32) (114 : Int32)).bind fun w7 =>
if w6 = w7 then (some ((2 : Int32)))
else ((zgj g m 2 11 a0).bind fun w8 =>
(f_X2_w4 (107 : Int32) (101 : Int32) (112 : Int32) (116 : Int32)).bind fun w9 =>
if w8 = w9 then (some ((3 : Int32)))
else ((zgj g m 2 11 a0).bind fun w10 =>
(f_X2_w4 (115 : Int32) (101 : Int32) (97 : Int32) (116 : Int32)).bind fun w11 =>
if w10 = w11 then (some ((4 : Int32)))
else ((zgj g m 2 11 a0).bind fun w12 =>
(f_X2_w6 (98 : Int32) (101 : Int32) (115 : Int32) (105 : Int32) (100 : Int32) (101 : Int32)).bind fun w13 =>
if w12 = w13 then (some ((5 : Int32)))
else ((zgj g m 2 11 a0).bind fun w14 =>
(f_X2_w5 (108 : Int32) (111 : Int32) (111 : Int32) (115 : Int32) (101 : Int32)).bind fun w15 =>
if w14 = w15 then (some ((6 : Int32)))
else (some ((-1 : Int32))))))))))
else (some ((-1 : Int32)))
theorem hy_X2_nameOf : zHy yX2_nameOf 0 := ⟨by decide, by decide, by decide +kernel⟩
set_option maxHeartbeats 4000000 in
theorem ok_X2_nameOf (l : Launch) (g : zGd) (m : zMm) (a0 : Option Nat) (z0 : Int32) (h : f_X2_nameOf g m a0 = some z0) : zCT l yX2_nameOf cX2_nameOf 1 (some .int) 6 135 g m [va_rf a0] (some (.int z0)) g m := by
  refine zCT.of (own := "QuiverKinModel") (mn := "nameOf") (by decide +kernel) rfl rfl (zla_r zla_0) (zls_r zls_0) (by decide) (fun X hxl hxg hxf hxt hxr hxn => ?_)
  have Kret : ∀ (y0 : Int32), y0 = z0 → zRe X g m (some (.int y0)) := by
    intro y0 e; cases e; exact ⟨hxf, hxr, hxn⟩
  subst hxl
  show zG X cX2_nameOf 1 "QuiverKinModel" "nameOf" 6 135 0 [(0, va_rf a0)] [] g m
  unfold f_X2_nameOf at h
  refine g_aload_n dX2_nameOf_0 0 rfl ?_
  refine gf_i zfd_2_9 q1419  (fun _ h9 => h9) dX2_nameOf_1 h (fun v1 h => ?_)
  refine g_iconst (v := (2 : Int32)) dX2_nameOf_4 (by decide) ?_
  refine g_icmp_eq 10 dX2_nameOf_5 (by decide) (fun c => ?_) (fun c => ?_)
  · have h := zite_p h c
    refine g_aload_n dX2_nameOf_10 0 rfl ?_
    refine gf_j zfd_2_11 q1421  (fun _ h9 => h9) dX2_nameOf_11 h (fun w2 h => ?_)
    refine g_bipush (v := (100 : Int32)) dX2_nameOf_14 (by decide) ?_
    refine g_bipush (v := (105 : Int32)) dX2_nameOf_16 (by decide) ?_
    refine g_bipush (v := (110 : Int32)) dX2_nameOf_18 (by decide) ?_
    refine g_bipush (v := (110 : Int32)) dX2_nameOf_20 (by decide) ?_
    refine g_bipush (v := (101 : Int32)) dX2_nameOf_22 (by decide) ?_
    refine g_bipush (v := (114 : Int32)) dX2_nameOf_24 (by decide) ?_
    refine g_cSRv (rv := fun x : Int64 => Value.long x) [.int (100 : Int32), .int (105 : Int32), .int (110 : Int32), .int (110 : Int32), .int (101 : Int32), .int (114 : Int32)] (fun x0 e0 => ok_X2_w6 (xl X) g m (100 : Int32) (105 : Int32) (110 : Int32) (110 : Int32) (101 : Int32) (114 : Int32) x0 e0) (lw_S q1616 q1617 q126 q1618) hy_X2_w6 rfl ⟨by decide, by decide⟩ rfl (zc_l zc_0) (by decide) dX2_nameOf_26 h (fun w3 h => ?_)
    refine g_lcmp_ne 35 dX2_nameOf_29 dX2_nameOf_30 (by decide) (fun c => ?_) (fun c => ?_)
    · have h := zite_n h c
      refine g_aload_n dX2_nameOf_35 0 rfl ?_
      refine gf_j zfd_2_11 q1421  (fun _ h9 => h9) dX2_nameOf_36 h (fun w4 h => ?_)
      refine g_bipush (v := (119 : Int32)) dX2_nameOf_39 (by decide) ?_
      refine g_bipush (v := (104 : Int32)) dX2_nameOf_41 (by decide) ?_
      refine g_bipush (v := (111 : Int32)) dX2_nameOf_43 (by decide) ?_
      refine g_cSRv (rv := fun x : Int64 => Value.long x) [.int (119 : Int32), .int (104 : Int32), .int (111 : Int32)] (fun x0 e0 => ok_X2_w3 (xl X) g m (119 : Int32) (104 : Int32) (111 : Int32) x0 e0) (lw_S q1603 q1604 q126 q1605) hy_X2_w3 rfl ⟨by decide, by decide⟩ rfl (zc_l zc_0) (by decide) dX2_nameOf_45 h (fun w5 h => ?_)
      refine g_lcmp_ne 54 dX2_nameOf_48 dX2_nameOf_49 (by decide) (fun c => ?_) (fun c => ?_)
      · have h := zite_n h c
        refine g_aload_n dX2_nameOf_54 0 rfl ?_
        refine gf_j zfd_2_11 q1421  (fun _ h9 => h9) dX2_nameOf_55 h (fun w6 h => ?_)
        refine g_bipush (v := (116 : Int32)) dX2_nameOf_58 (by decide) ?_
        refine g_bipush (v := (101 : Int32)) dX2_nameOf_60 (by decide) ?_
        refine g_bipush (v := (109 : Int32)) dX2_nameOf_62 (by decide) ?_
        refine g_bipush (v := (112 : Int32)) dX2_nameOf_64 (by decide) ?_
        refine g_bipush (v := (101 : Int32)) dX2_nameOf_66 (by decide) ?_
        refine g_bipush (v := (114 : Int32)) dX2_nameOf_68 (by decide) ?_
        refine g_cSRv (rv := fun x : Int64 => Value.long x) [.int (116 : Int32), .int (101 : Int32), .int (109 : Int32), .int (112 : Int32), .int (101 : Int32), .int (114 : Int32)] (fun x0 e0 => ok_X2_w6 (xl X) g m (116 : Int32) (101 : Int32) (109 : Int32) (112 : Int32) (101 : Int32) (114 : Int32) x0 e0) (lw_S q1616 q1617 q126 q1618) hy_X2_w6 rfl ⟨by decide, by decide⟩ rfl (zc_l zc_0) (by decide) dX2_nameOf_70 h (fun w7 h => ?_)
        refine g_lcmp_ne 79 dX2_nameOf_73 dX2_nameOf_74 (by decide) (fun c => ?_) (fun c => ?_)
        · have h := zite_n h c
          refine g_aload_n dX2_nameOf_79 0 rfl ?_
          refine gf_j zfd_2_11 q1421  (fun _ h9 => h9) dX2_nameOf_80 h (fun w8 h => ?_)
          refine g_bipush (v := (107 : Int32)) dX2_nameOf_83 (by decide) ?_
          refine g_bipush (v := (101 : Int32)) dX2_nameOf_85 (by decide) ?_
          refine g_bipush (v := (112 : Int32)) dX2_nameOf_87 (by decide) ?_
          refine g_bipush (v := (116 : Int32)) dX2_nameOf_89 (by decide) ?_
          refine g_cSRv (rv := fun x : Int64 => Value.long x) [.int (107 : Int32), .int (101 : Int32), .int (112 : Int32), .int (116 : Int32)] (fun x0 e0 => ok_X2_w4 (xl X) g m (107 : Int32) (101 : Int32) (112 : Int32) (116 : Int32) x0 e0) (lw_S q1600 q1601 q126 q1602) hy_X2_w4 rfl ⟨by decide, by decide⟩ rfl (zc_l zc_0) (by decide) dX2_nameOf_91 h (fun w9 h => ?_)
          refine g_lcmp_ne 100 dX2_nameOf_94 dX2_nameOf_95 (by decide) (fun c => ?_) (fun c => ?_)
          · have h := zite_n h c
            refine g_aload_n dX2_nameOf_100 0 rfl ?_
            refine gf_j zfd_2_11 q1421  (fun _ h9 => h9) dX2_nameOf_101 h (fun w10 h => ?_)
            refine g_bipush (v := (115 : Int32)) dX2_nameOf_104 (by decide) ?_
            refine g_bipush (v := (101 : Int32)) dX2_nameOf_106 (by decide) ?_
            refine g_bipush (v := (97 : Int32)) dX2_nameOf_108 (by decide) ?_
            refine g_bipush (v := (116 : Int32)) dX2_nameOf_110 (by decide) ?_
            refine g_cSRv (rv := fun x : Int64 => Value.long x) [.int (115 : Int32), .int (101 : Int32), .int (97 : Int32), .int (116 : Int32)] (fun x0 e0 => ok_X2_w4 (xl X) g m (115 : Int32) (101 : Int32) (97 : Int32) (116 : Int32) x0 e0) (lw_S q1600 q1601 q126 q1602) hy_X2_w4 rfl ⟨by decide, by decide⟩ rfl (zc_l zc_0) (by decide) dX2_nameOf_112 h (fun w11 h => ?_)
            refine g_lcmp_ne 121 dX2_nameOf_115 dX2_nameOf_116 (by decide) (fun c => ?_) (fun c => ?_)
            · have h := zite_n h c
              refine g_aload_n dX2_nameOf_121 0 rfl ?_
              refine gf_j zfd_2_11 q1421  (fun _ h9 => h9) dX2_nameOf_122 h (fun w12 h => ?_)
              refine g_bipush (v := (98 : Int32)) dX2_nameOf_125 (by decide) ?_
              refine g_bipush (v := (101 : Int32)) dX2_nameOf_127 (by decide) ?_
              refine g_bipush (v := (115 : Int32)) dX2_nameOf_129 (by decide) ?_
              refine g_bipush (v := (105 : Int32)) dX2_nameOf_131 (by decide) ?_
              refine g_bipush (v := (100 : Int32)) dX2_nameOf_133 (by decide) ?_
              refine g_bipush (v := (101 : Int32)) dX2_nameOf_135 (by decide) ?_
              refine g_cSRv (rv := fun x : Int64 => Value.long x) [.int (98 : Int32), .int (101 : Int32), .int (115 : Int32), .int (105 : Int32), .int (100 : Int32), .int (101 : Int32)] (fun x0 e0 => ok_X2_w6 (xl X) g m (98 : Int32) (101 : Int32) (115 : Int32) (105 : Int32) (100 : Int32) (101 : Int32) x0 e0) (lw_S q1616 q1617 q126 q1618) hy_X2_w6 rfl ⟨by decide, by decide⟩ rfl (zc_l zc_0) (by decide) dX2_nameOf_137 h (fun w13 h => ?_)
              refine g_lcmp_ne 148 dX2_nameOf_140 dX2_nameOf_141 (by decide) (fun c => ?_) (fun c => ?_)
              · have h := zite_n h c
                refine g_aload_n dX2_nameOf_148 0 rfl ?_
                refine gf_j zfd_2_11 q1421  (fun _ h9 => h9) dX2_nameOf_149 h (fun w14 h => ?_)
                refine g_bipush (v := (108 : Int32)) dX2_nameOf_152 (by decide) ?_
                refine g_bipush (v := (111 : Int32)) dX2_nameOf_154 (by decide) ?_
                refine g_bipush (v := (111 : Int32)) dX2_nameOf_156 (by decide) ?_
                refine g_bipush (v := (115 : Int32)) dX2_nameOf_158 (by decide) ?_
                refine g_bipush (v := (101 : Int32)) dX2_nameOf_160 (by decide) ?_
                refine g_cSRv (rv := fun x : Int64 => Value.long x) [.int (108 : Int32), .int (111 : Int32), .int (111 : Int32), .int (115 : Int32), .int (101 : Int32)] (fun x0 e0 => ok_X2_w5 (xl X) g m (108 : Int32) (111 : Int32) (111 : Int32) (115 : Int32) (101 : Int32) x0 e0) (lw_S q1609 q1610 q126 q1611) hy_X2_w5 rfl ⟨by decide, by decide⟩ rfl (zc_l zc_0) (by decide) dX2_nameOf_162 h (fun w15 h => ?_)
                refine g_lcmp_ne 174 dX2_nameOf_165 dX2_nameOf_166 (by decide) (fun c => ?_) (fun c => ?_)
                · have h := zite_n h c
                  refine g_iconst (v := (-1 : Int32)) dX2_nameOf_174 (by decide) ?_
                  refine g_iret dX2_nameOf_175 hxt ?_
                  have e := Option.some.inj h
                  exact Kret _ e
                · have h := zite_p h c
                  refine g_bipush (v := (6 : Int32)) dX2_nameOf_169 (by decide) ?_
                  refine g_goto 175 dX2_nameOf_171 (by decide) ?_
                  refine g_iret dX2_nameOf_175 hxt ?_
                  have e := Option.some.inj h
                  exact Kret _ e
              · have h := zite_p h c
                refine g_iconst (v := (5 : Int32)) dX2_nameOf_144 (by decide) ?_
                refine g_goto 175 dX2_nameOf_145 (by decide) ?_
                refine g_iret dX2_nameOf_175 hxt ?_
                have e := Option.some.inj h
                exact Kret _ e
            · have h := zite_p h c
              refine g_iconst (v := (4 : Int32)) dX2_nameOf_119 (by decide) ?_
              refine g_iret dX2_nameOf_120 hxt ?_
              have e := Option.some.inj h
              exact Kret _ e
          · have h := zite_p h c
            refine g_iconst (v := (3 : Int32)) dX2_nameOf_98 (by decide) ?_
            refine g_iret dX2_nameOf_99 hxt ?_
            have e := Option.some.inj h
            exact Kret _ e
        · have h := zite_p h c
          refine g_iconst (v := (2 : Int32)) dX2_nameOf_77 (by decide) ?_
          refine g_iret dX2_nameOf_78 hxt ?_
          have e := Option.some.inj h
          exact Kret _ e
      · have h := zite_p h c
        refine g_iconst (v := (1 : Int32)) dX2_nameOf_52 (by decide) ?_
        refine g_iret dX2_nameOf_53 hxt ?_
        have e := Option.some.inj h
        exact Kret _ e
    · have h := zite_p h c
      refine g_iconst (v := (0 : Int32)) dX2_nameOf_33 (by decide) ?_
      refine g_iret dX2_nameOf_34 hxt ?_
      have e := Option.some.inj h
      exact Kret _ e
  · have h := zite_n h c
    refine g_iconst (v := (-1 : Int32)) dX2_nameOf_8 (by decide) ?_
    refine g_iret dX2_nameOf_9 hxt ?_
    have e := Option.some.inj h
    exact Kret _ e
/-! QuiverKinModel.opened -/
def f_X2_opened (g : zGd) (m : zMm) (a0 : Option Nat) (a1 : Int32) : Option (Int32 × zMm) :=
(zgi g m 2 17 a0).bind fun v1 =>
if v1 = (8 : Int32) then (some (((3 : Int32), m)))
else ((zgi g m 2 17 a0).bind fun v2 =>
(zpi g m 2 17 a0 (v2 + (1 : Int32))).bind fun m3 =>
(zgr g m3 2 15 a0).bind fun r4 =>
(zgi g m3 2 16 a0).bind fun v5 =>
(zast 101 g m3 r4 v5 a1).bind fun m6 =>
(zgi g m6 2 16 a0).bind fun v7 =>
(zpi g m6 2 16 a0 (v7 + (1 : Int32))).bind fun m8 =>
(zrc g 2 a0 (f_X2_nextToken g m8 a0)).bind fun m9 =>
some (((0 : Int32), m9)))
theorem hy_X2_opened : zHy yX2_opened 1 := ⟨by decide, by decide, by decide +kernel⟩
set_option maxHeartbeats 4000000 in
theorem ok_X2_opened (l : Launch) (g : zGd) (m : zMm) (a0 : Option Nat) (a1 : Int32) (z0 : Int32) (m0 : zMm) (h : f_X2_opened g m a0 a1 = some (z0, m0)) : zCT l yX2_opened cX2_opened 2 (some .int) 3 62 g m [va_rf a0, .int a1] (some (.int z0)) g m0 := by
  refine zCT.of (own := "QuiverKinModel") (mn := "opened") (by decide +kernel) rfl rfl (zla_r (zla_i zla_0)) (zls_r (zls_i zls_0)) (by decide) (fun X hxl hxg hxf hxt hxr hxn => ?_)
  have Kret : ∀ (y0 : Int32) (y1 : zMm), (y0, y1) = (z0, m0) → zRe X g y1 (some (.int y0)) := by
    intro y0 y1 e; cases e; exact ⟨hxf, hxr, hxn⟩
  subst hxl
  show zG X cX2_opened 2 "QuiverKinModel" "opened" 3 62 0 [(0, va_rf a0), (1, .int a1)] [] g m
  unfold f_X2_opened at h
  refine g_aload_n dX2_opened_0 0 rfl ?_
  refine gf_i zfd_2_17 q1427  (fun _ h9 => h9) dX2_opened_1 h (fun v1 h => ?_)
  refine g_bipush (v := (8 : Int32)) dX2_opened_4 (by decide) ?_
  refine g_icmp_ne 11 dX2_opened_6 (by decide) (fun c => ?_) (fun c => ?_)
  · have h := zite_n h c
    refine g_aload_n dX2_opened_11 0 rfl ?_
    refine g_dup dX2_opened_12 (zcat_r _) ?_
    refine gf_i zfd_2_17 q1427  (fun _ h9 => h9) dX2_opened_13 h (fun v2 h => ?_)
    refine g_iconst (v := (1 : Int32)) dX2_opened_16 (by decide) ?_
    refine g_iadd dX2_opened_17 ?_
    refine gp_i zpd_2_17 q1427 (fun _ h9 => h9) dX2_opened_18 h (fun m3 h => ?_)
    refine g_aload_n dX2_opened_21 0 rfl ?_
    refine gf_r zfd_2_15 q1425  (fun _ h9 => h9) dX2_opened_22 h (fun r4 h => ?_)
    refine g_aload_n dX2_opened_25 0 rfl ?_
    refine gf_i zfd_2_16 q1426  (fun _ h9 => h9) dX2_opened_26 h (fun v5 h => ?_)
    refine g_iload_n dX2_opened_29 1 rfl ?_
    refine g_iast dX2_opened_30 h (fun m6 h => ?_)
    refine g_aload_n dX2_opened_31 0 rfl ?_
    refine g_dup dX2_opened_32 (zcat_r _) ?_
    refine gf_i zfd_2_16 q1426  (fun _ h9 => h9) dX2_opened_33 h (fun v7 h => ?_)
    refine g_iconst (v := (1 : Int32)) dX2_opened_36 (by decide) ?_
    refine g_iadd dX2_opened_37 ?_
    refine gp_i zpd_2_16 q1426 (fun _ h9 => h9) dX2_opened_38 h (fun m8 h => ?_)
    refine g_aload_n dX2_opened_41 0 rfl ?_
    refine g_cVMn [] (fun m0 e0 => ok_X2_nextToken (xl X) g m8 a0 m0 e0) zc2 (by decide) (lw_V q1569 q1571 qs58 q126 q1572) rfl hy_X2_nextToken rfl ⟨by decide, by decide⟩ rfl zc_0 (by decide) dX2_opened_42 h (fun m9 h => ?_)
    refine g_iconst (v := (0 : Int32)) dX2_opened_45 (by decide) ?_
    refine g_iret dX2_opened_46 hxt ?_
    have e := Option.some.inj h
    exact Kret _ _ e
  · have h := zite_p h c
    refine g_iconst (v := (3 : Int32)) dX2_opened_9 (by decide) ?_
    refine g_iret dX2_opened_10 hxt ?_
    have e := Option.some.inj h
    exact Kret _ _ e
/-! QuiverKinModel.settle -/
def b_X2_settle_0 (g : zGd) (a0 : Option Nat) (a1 : Int32) : zMm → Option ((zMm) ⊕ (zMm)) := fun m4 =>
(zgi g m4 2 16 a0).bind fun v5 =>
if v5 ≤ 0 then (some (.inl m4))
else ((zgr g m4 2 15 a0).bind fun r6 =>
(zgi g m4 2 16 a0).bind fun v7 =>
(zald 101 g m4 r6 (v7 - (1 : Int32))).bind fun v8 =>
(f_X2_rank v8).bind fun v9 =>
if v9 < a1 then (some (.inl m4))
else ((zgi g m4 2 16 a0).bind fun v10 =>
(zpi g m4 2 16 a0 (v10 - (1 : Int32))).bind fun m11 =>
(zgr g m11 2 15 a0).bind fun r12 =>
(zgi g m11 2 16 a0).bind fun v13 =>
(zald 101 g m11 r12 v13).bind fun v14 =>
(zrc g 2 a0 (f_X2_emit g m11 a0 v14 (0 : Int32))).bind fun m15 =>
(zgr g m15 2 15 a0).bind fun r16 =>
(zgi g m15 2 16 a0).bind fun v17 =>
(zald 101 g m15 r16 v17).bind fun v18 =>
(f_X2_rank v18).bind fun v19 =>
zEx (σ := Unit) (if v19 = (7 : Int32) then (some (.inr ()))
else ((zgr g m15 2 15 a0).bind fun r21 =>
(zgi g m15 2 16 a0).bind fun v22 =>
(zald 101 g m15 r21 v22).bind fun v23 =>
if v23 = (20 : Int32) then (some (.inr ()))
else (some (.inl (.inr m15))))) fun _ =>
(zgi g m15 2 17 a0).bind fun v24 =>
(zpi g m15 2 17 a0 (v24 - (1 : Int32))).bind fun m25 =>
some (.inr m25)))
def f_X2_settle (g : zGd) (m : zMm) (a0 : Option Nat) (a1 : Int32) : Option (zMm) :=
(zLoop (b_X2_settle_0 g a0 a1) zFuel m).bind fun m2 =>
some (m2)
theorem hy_X2_settle : zHy yX2_settle 1 := ⟨by decide, by decide, by decide +kernel⟩
set_option maxHeartbeats 4000000 in
theorem ok_X2_settle (l : Launch) (g : zGd) (m : zMm) (a0 : Option Nat) (a1 : Int32) (m0 : zMm) (h : f_X2_settle g m a0 a1 = some m0) : zCT l yX2_settle cX2_settle 2 none 2 42 g m [va_rf a0, .int a1] none g m0 := by
  refine zCT.of (own := "QuiverKinModel") (mn := "settle") (by decide +kernel) rfl rfl (zla_r (zla_i zla_0)) (zls_r (zls_i zls_0)) (by decide) (fun X hxl hxg hxf hxt hxr hxn => ?_)
  have Kret : ∀ (y0 : zMm), y0 = m0 → zRe X g y0 none := by
    intro y0 e; cases e; exact ⟨hxf, hxr, hxn⟩
  subst hxl
  show zG X cX2_settle 2 "QuiverKinModel" "settle" 2 42 0 [(0, va_rf a0), (1, .int a1)] [] g m
  unfold f_X2_settle at h
  obtain ⟨o1, h1, h2⟩ := zB_e h
  have K1 : ∀ (m2 : zMm), o1 = m2 → zG X cX2_settle 2 "QuiverKinModel" "settle" 2 42 93 [] [] g m2 := by
    intro m2 e
    rw [e] at h2
    have h := h2
    refine g_vret dX2_settle_93 hxt ?_
    have e := Option.some.inj h
    exact Kret _ e
  refine zG.sub [0, 1] rfl ?_
  refine zLoop_ok (Φ := (fun m4 : zMm => zG X cX2_settle 2 "QuiverKinModel" "settle" 2 42 0 [(0, va_rf a0), (1, .int a1)] [] g m4)) o1 ?_ zFuel _ h1
  rintro m4 x3 h hl3 hr3
  unfold b_X2_settle_0 at h
  have K3 : ∀ (m4 : zMm), x3 = .inr m4 → zG X cX2_settle 2 "QuiverKinModel" "settle" 2 42 0 [(0, va_rf a0), (1, .int a1)] [] g m4 := by
    intro m4 e
    exact hr3 _ e
  show zG X cX2_settle 2 "QuiverKinModel" "settle" 2 42 0 [(0, va_rf a0), (1, .int a1)] [] g m4
  refine g_aload_n dX2_settle_0 0 rfl ?_
  refine gf_i zfd_2_16 q1426  (fun _ h9 => h9) dX2_settle_1 h (fun v5 h => ?_)
  refine g_if_le 93 dX2_settle_4 (by decide) (fun c => ?_) (fun c => ?_)
  · have h := zite_p h c
    refine zG.sub [] rfl ?_
    have e := Option.some.inj h
    have e := hl3 _ e.symm
    exact K1 _ e.symm
  · have h := zite_n h c
    refine g_aload_n dX2_settle_7 0 rfl ?_
    refine gf_r zfd_2_15 q1425  (fun _ h9 => h9) dX2_settle_8 h (fun r6 h => ?_)
    refine g_aload_n dX2_settle_11 0 rfl ?_
    refine gf_i zfd_2_16 q1426  (fun _ h9 => h9) dX2_settle_12 h (fun v7 h => ?_)
    refine g_iconst (v := (1 : Int32)) dX2_settle_15 (by decide) ?_
    refine g_isub dX2_settle_16 ?_
    refine g_iald dX2_settle_17 h (fun v8 h => ?_)
    refine g_cSRv (rv := fun x : Int32 => Value.int x) [.int v8] (fun x0 e0 => ok_X2_rank (xl X) g m4 v8 x0 e0) (lw_S q1662 q1663 q126 q1664) hy_X2_rank rfl ⟨by decide, by decide⟩ rfl zc_0 (by decide) dX2_settle_18 h (fun v9 h => ?_)
    refine g_iload_n dX2_settle_21 1 rfl ?_
    refine g_icmp_lt 93 dX2_settle_22 (by decide) (fun c => ?_) (fun c => ?_)
    · have h := zite_p h c
      refine zG.sub [] rfl ?_
      have e := Option.some.inj h
      have e := hl3 _ e.symm
      exact K1 _ e.symm
    · have h := zite_n h c
      refine g_aload_n dX2_settle_25 0 rfl ?_
      refine g_dup dX2_settle_26 (zcat_r _) ?_
      refine gf_i zfd_2_16 q1426  (fun _ h9 => h9) dX2_settle_27 h (fun v10 h => ?_)
      refine g_iconst (v := (1 : Int32)) dX2_settle_30 (by decide) ?_
      refine g_isub dX2_settle_31 ?_
      refine gp_i zpd_2_16 q1426 (fun _ h9 => h9) dX2_settle_32 h (fun m11 h => ?_)
      refine g_aload_n dX2_settle_35 0 rfl ?_
      refine g_aload_n dX2_settle_36 0 rfl ?_
      refine gf_r zfd_2_15 q1425  (fun _ h9 => h9) dX2_settle_37 h (fun r12 h => ?_)
      refine g_aload_n dX2_settle_40 0 rfl ?_
      refine gf_i zfd_2_16 q1426  (fun _ h9 => h9) dX2_settle_41 h (fun v13 h => ?_)
      refine g_iald dX2_settle_44 h (fun v14 h => ?_)
      refine g_iconst (v := (0 : Int32)) dX2_settle_45 (by decide) ?_
      refine g_cVMn [.int v14, .int (0 : Int32)] (fun m0 e0 => ok_X2_emit (xl X) g m11 a0 v14 (0 : Int32) m0 e0) zc2 (by decide) (lw_V q1673 q1675 qs76 q126 q1676) rfl hy_X2_emit rfl ⟨by decide, by decide⟩ rfl zc_0 (by decide) dX2_settle_46 h (fun m15 h => ?_)
      refine g_aload_n dX2_settle_49 0 rfl ?_
      refine gf_r zfd_2_15 q1425  (fun _ h9 => h9) dX2_settle_50 h (fun r16 h => ?_)
      refine g_aload_n dX2_settle_53 0 rfl ?_
      refine gf_i zfd_2_16 q1426  (fun _ h9 => h9) dX2_settle_54 h (fun v17 h => ?_)
      refine g_iald dX2_settle_57 h (fun v18 h => ?_)
      refine g_cSRv (rv := fun x : Int32 => Value.int x) [.int v18] (fun x0 e0 => ok_X2_rank (xl X) g m15 v18 x0 e0) (lw_S q1662 q1663 q126 q1664) hy_X2_rank rfl ⟨by decide, by decide⟩ rfl zc_0 (by decide) dX2_settle_58 h (fun v19 h => ?_)
      refine g_bipush (v := (7 : Int32)) dX2_settle_61 (by decide) ?_
      obtain ⟨o20, h1, hl20, hr20⟩ := zEx_e h
      have K20 : o20 = .inr () → zG X cX2_settle 2 "QuiverKinModel" "settle" 2 42 80 [(0, va_rf a0), (1, .int a1)] [] g m15 := by
        intro e
        have h := hr20 _ e
        refine g_aload_n dX2_settle_80 0 rfl ?_
        refine g_dup dX2_settle_81 (zcat_r _) ?_
        refine gf_i zfd_2_17 q1427  (fun _ h9 => h9) dX2_settle_82 h (fun v24 h => ?_)
        refine g_iconst (v := (1 : Int32)) dX2_settle_85 (by decide) ?_
        refine g_isub dX2_settle_86 ?_
        refine gp_i zpd_2_17 q1427 (fun _ h9 => h9) dX2_settle_87 h (fun m25 h => ?_)
        refine g_goto 0 dX2_settle_90 (by decide) ?_
        refine zG.sub [0, 1] rfl ?_
        have e := Option.some.inj h
        exact K3 _ e.symm
      have h := h1
      refine g_icmp_eq 80 dX2_settle_63 (by decide) (fun c => ?_) (fun c => ?_)
      · have h := zite_p h c
        refine zG.sub [0, 1] rfl ?_
        have e := Option.some.inj h
        exact K20 e.symm
      · have h := zite_n h c
        refine g_aload_n dX2_settle_66 0 rfl ?_
        refine gf_r zfd_2_15 q1425  (fun _ h9 => h9) dX2_settle_67 h (fun r21 h => ?_)
        refine g_aload_n dX2_settle_70 0 rfl ?_
        refine gf_i zfd_2_16 q1426  (fun _ h9 => h9) dX2_settle_71 h (fun v22 h => ?_)
        refine g_iald dX2_settle_74 h (fun v23 h => ?_)
        refine g_bipush (v := (20 : Int32)) dX2_settle_75 (by decide) ?_
        refine g_icmp_ne 0 dX2_settle_77 (by decide) (fun c => ?_) (fun c => ?_)
        · have h := zite_n h c
          refine zG.sub [0, 1] rfl ?_
          have e := Option.some.inj h
          have e := hl20 _ e.symm
          exact K3 _ e.symm
        · have h := zite_p h c
          refine zG.sub [0, 1] rfl ?_
          have e := Option.some.inj h
          exact K20 e.symm
/-! QuiverKinModel.beginOne -/
def f_X2_beginOne (g : zGd) (m : zMm) (a0 : Option Nat) : Option (Int32 × zMm) :=
(zgi g m 2 9 a0).bind fun v1 =>
zEx (σ := Unit) (if v1 = (1 : Int32) then ((zgi g m 2 10 a0).bind fun v3 =>
if v3 ≤ (9999 : Int32) then (some (.inr ()))
else (some (.inl (((2 : Int32), m)))))
else (some (.inr ()))) fun _ =>
(zrc g 2 a0 (f_X2_nameOf g m a0)).bind fun v4 =>
zEx (σ := Unit) (if v4 < 0 then (some (.inr ()))
else ((zrc g 2 a0 (f_X2_isOf g m a0 v4)).bind fun v6 =>
if v6 = 0 then (some (.inl (((5 : Int32), m))))
else (some (.inr ())))) fun _ =>
(zgi g m 2 9 a0).bind fun v7 =>
zEx (σ := Unit) (if v7 = (1 : Int32) then (some (.inr ()))
else (if v4 < 0 then ((zgi g m 2 9 a0).bind fun v9 =>
if v9 = (40 : Int32) then ((zrc g 2 a0 (f_X2_opened g m a0 (40 : Int32))).bind fun (v30, m31) =>
some (.inl ((v30, m31))))
else ((zgi g m 2 9 a0).bind fun v10 =>
if v10 = (45 : Int32) then ((zrc g 2 a0 (f_X2_opened g m a0 (5 : Int32))).bind fun (v28, m29) =>
some (.inl ((v28, m29))))
else ((f_X2_w6 (97 : Int32) (99 : Int32) (114 : Int32) (111 : Int32) (115 : Int32) (115 : Int32)).bind fun w11 =>
(zrc g 2 a0 (f_X2_isWord g m a0 w11)).bind fun v12 =>
if v12 = 0 then ((f_X2_w6 (113 : Int32) (117 : Int32) (105 : Int32) (118 : Int32) (101 : Int32) (114 : Int32)).bind fun w13 =>
(zrc g 2 a0 (f_X2_isWord g m a0 w13)).bind fun v14 =>
if v14 = 0 then ((f_X2_w2 (105 : Int32) (102 : Int32)).bind fun w15 =>
(zrc g 2 a0 (f_X2_isWord g m a0 w15)).bind fun v16 =>
if v16 = 0 then ((f_X2_w3 (110 : Int32) (111 : Int32) (116 : Int32)).bind fun w17 =>
(zrc g 2 a0 (f_X2_isWord g m a0 w17)).bind fun v18 =>
if v18 = 0 then (some (.inl (((1 : Int32), m))))
else ((zrc g 2 a0 (f_X2_isAskAhead g m a0)).bind fun v19 =>
if v19 = 0 then (some (.inl (((1 : Int32), m))))
else ((zrc g 2 a0 (f_X2_opened g m a0 (20 : Int32))).bind fun (v20, m21) =>
some (.inl ((v20, m21))))))
else ((zrc g 2 a0 (f_X2_opened g m a0 (41 : Int32))).bind fun (v22, m23) =>
some (.inl ((v22, m23)))))
else ((zrc g 2 a0 (f_X2_opened g m a0 (4 : Int32))).bind fun (v24, m25) =>
some (.inl ((v24, m25)))))
else ((zrc g 2 a0 (f_X2_opened g m a0 (2 : Int32))).bind fun (v26, m27) =>
some (.inl ((v26, m27)))))))
else (some (.inr ())))) fun _ =>
(zgi g m 2 9 a0).bind fun v32 =>
((if v32 = (1 : Int32) then (some ((0 : Int32)))
else (some ((1 : Int32))) : Option (Int32))).bind fun v34 =>
(zgi g m 2 9 a0).bind fun v35 =>
((if v35 = (1 : Int32) then ((zgi g m 2 10 a0).bind fun v38 =>
some (v38))
else (some (v4)) : Option (Int32))).bind fun v37 =>
(zrc g 2 a0 (f_X2_emit g m a0 v34 v37)).bind fun m39 =>
(zrc g 2 a0 (f_X2_nextToken g m39 a0)).bind fun m40 =>
(zpz g m40 2 18 a0 (1 : Int32)).bind fun m41 =>
(zrc g 2 a0 (f_X2_settle g m41 a0 (7 : Int32))).bind fun m42 =>
some (((0 : Int32), m42))
theorem hy_X2_beginOne : zHy yX2_beginOne 0 := ⟨by decide, by decide, by decide +kernel⟩
set_option maxHeartbeats 4000000 in
theorem ok_X2_beginOne (l : Launch) (g : zGd) (m : zMm) (a0 : Option Nat) (z0 : Int32) (m0 : zMm) (h : f_X2_beginOne g m a0 = some (z0, m0)) : zCT l yX2_beginOne cX2_beginOne 2 (some .int) 7 155 g m [va_rf a0] (some (.int z0)) g m0 := by
  refine zCT.of (own := "QuiverKinModel") (mn := "beginOne") (by decide +kernel) rfl rfl (zla_r zla_0) (zls_r zls_0) (by decide) (fun X hxl hxg hxf hxt hxr hxn => ?_)
  have Kret : ∀ (y0 : Int32) (y1 : zMm), (y0, y1) = (z0, m0) → zRe X g y1 (some (.int y0)) := by
    intro y0 y1 e; cases e; exact ⟨hxf, hxr, hxn⟩
  subst hxl
  show zG X cX2_beginOne 2 "QuiverKinModel" "beginOne" 7 155 0 [(0, va_rf a0)] [] g m
  unfold f_X2_beginOne at h
  refine g_aload_n dX2_beginOne_0 0 rfl ?_
  refine gf_i zfd_2_9 q1419  (fun _ h9 => h9) dX2_beginOne_1 h (fun v1 h => ?_)
  refine g_iconst (v := (1 : Int32)) dX2_beginOne_4 (by decide) ?_
  obtain ⟨o2, h1, hl2, hr2⟩ := zEx_e h
  have K2 : o2 = .inr () → zG X cX2_beginOne 2 "QuiverKinModel" "beginOne" 7 155 20 [(0, va_rf a0)] [] g m := by
    intro e
    have h := hr2 _ e
    refine g_aload_n dX2_beginOne_20 0 rfl ?_
    refine g_cVRv (rv := fun x : Int32 => Value.int x) [] (fun x0 e0 => ok_X2_nameOf (xl X) g m a0 x0 e0) zc2 (by decide) (lw_V q1685 q1687 qs79 q126 q1688) rfl hy_X2_nameOf rfl ⟨by decide, by decide⟩ rfl zc_0 (by decide) dX2_beginOne_21 h (fun v4 h => ?_)
    refine g_istore_n [(1, .int v4), (0, va_rf a0)] dX2_beginOne_24 (by decide) (zf_r zf_0) rfl ?_
    refine g_iload_n dX2_beginOne_25 0 rfl ?_
    obtain ⟨o5, h1, hl5, hr5⟩ := zEx_e h
    have K5 : o5 = .inr () → zG X cX2_beginOne 2 "QuiverKinModel" "beginOne" 7 155 39 [(0, va_rf a0), (1, .int v4)] [] g m := by
      intro e
      have h := hr5 _ e
      refine g_aload_n dX2_beginOne_39 0 rfl ?_
      refine gf_i zfd_2_9 q1419  (fun _ h9 => h9) dX2_beginOne_40 h (fun v7 h => ?_)
      refine g_iconst (v := (1 : Int32)) dX2_beginOne_43 (by decide) ?_
      obtain ⟨o8, h1, hl8, hr8⟩ := zEx_e h
      have K8 : o8 = .inr () → zG X cX2_beginOne 2 "QuiverKinModel" "beginOne" 7 155 51 [(0, va_rf a0), (1, .int v4)] [] g m := by
        intro e
        have h := hr8 _ e
        refine g_aload_n dX2_beginOne_51 0 rfl ?_
        refine g_aload_n dX2_beginOne_52 0 rfl ?_
        refine gf_i zfd_2_9 q1419  (fun _ h9 => h9) dX2_beginOne_53 h (fun v32 h => ?_)
        refine g_iconst (v := (1 : Int32)) dX2_beginOne_56 (by decide) ?_
        obtain ⟨o33, h1, h2⟩ := zB_e h
        have K33 : ∀ (v34 : Int32), o33 = v34 → zG X cX2_beginOne 2 "QuiverKinModel" "beginOne" 7 155 65 [(0, va_rf a0), (1, .int v4)] [.int v34, va_rf a0] g m := by
          intro v34 e
          rw [e] at h2
          have h := h2
          refine g_aload_n dX2_beginOne_65 0 rfl ?_
          refine gf_i zfd_2_9 q1419  (fun _ h9 => h9) dX2_beginOne_66 h (fun v35 h => ?_)
          refine g_iconst (v := (1 : Int32)) dX2_beginOne_69 (by decide) ?_
          obtain ⟨o36, h1, h2⟩ := zB_e h
          have K36 : ∀ (v37 : Int32), o36 = v37 → zG X cX2_beginOne 2 "QuiverKinModel" "beginOne" 7 155 81 [(0, va_rf a0)] [.int v37, .int v34, va_rf a0] g m := by
            intro v37 e
            rw [e] at h2
            have h := h2
            refine g_cVMn [.int v34, .int v37] (fun m0 e0 => ok_X2_emit (xl X) g m a0 v34 v37 m0 e0) zc2 (by decide) (lw_V q1673 q1675 qs76 q126 q1676) rfl hy_X2_emit rfl ⟨by decide, by decide⟩ rfl zc_0 (by decide) dX2_beginOne_81 h (fun m39 h => ?_)
            refine g_aload_n dX2_beginOne_84 0 rfl ?_
            refine g_cVMn [] (fun m0 e0 => ok_X2_nextToken (xl X) g m39 a0 m0 e0) zc2 (by decide) (lw_V q1569 q1571 qs58 q126 q1572) rfl hy_X2_nextToken rfl ⟨by decide, by decide⟩ rfl zc_0 (by decide) dX2_beginOne_85 h (fun m40 h => ?_)
            refine g_aload_n dX2_beginOne_88 0 rfl ?_
            refine g_iconst (v := (1 : Int32)) dX2_beginOne_89 (by decide) ?_
            refine gp_z zpd_2_18 q1428 (fun _ h9 => h9) dX2_beginOne_90 h (fun m41 h => ?_)
            refine g_aload_n dX2_beginOne_93 0 rfl ?_
            refine g_bipush (v := (7 : Int32)) dX2_beginOne_94 (by decide) ?_
            refine g_cVMn [.int (7 : Int32)] (fun m0 e0 => ok_X2_settle (xl X) g m41 a0 (7 : Int32) m0 e0) zc2 (by decide) (lw_V q1669 q1671 qs75 q126 q1672) rfl hy_X2_settle rfl ⟨by decide, by decide⟩ rfl zc_0 (by decide) dX2_beginOne_96 h (fun m42 h => ?_)
            refine g_iconst (v := (0 : Int32)) dX2_beginOne_99 (by decide) ?_
            refine g_iret dX2_beginOne_100 hxt ?_
            have e := Option.some.inj h
            exact Kret _ _ e
          have h := h1
          refine g_icmp_ne 80 dX2_beginOne_70 (by decide) (fun c => ?_) (fun c => ?_)
          · have h := zite_n h c
            refine g_iload_n dX2_beginOne_80 1 rfl ?_
            refine zG.sub [0] rfl ?_
            have e := Option.some.inj h
            exact K36 _ e.symm
          · have h := zite_p h c
            refine g_aload_n dX2_beginOne_73 0 rfl ?_
            refine gf_i zfd_2_10 q1420  (fun _ h9 => h9) dX2_beginOne_74 h (fun v38 h => ?_)
            refine g_goto 81 dX2_beginOne_77 (by decide) ?_
            refine zG.sub [0] rfl ?_
            have e := Option.some.inj h
            exact K36 _ e.symm
        have h := h1
        refine g_icmp_ne 64 dX2_beginOne_57 (by decide) (fun c => ?_) (fun c => ?_)
        · have h := zite_n h c
          refine g_iconst (v := (1 : Int32)) dX2_beginOne_64 (by decide) ?_
          refine zG.sub [0, 1] rfl ?_
          have e := Option.some.inj h
          exact K33 _ e.symm
        · have h := zite_p h c
          refine g_iconst (v := (0 : Int32)) dX2_beginOne_60 (by decide) ?_
          refine g_goto 65 dX2_beginOne_61 (by decide) ?_
          refine zG.sub [0, 1] rfl ?_
          have e := Option.some.inj h
          exact K33 _ e.symm
      have h := h1
      refine g_icmp_eq 51 dX2_beginOne_44 (by decide) (fun c => ?_) (fun c => ?_)
      · have h := zite_p h c
        refine zG.sub [0, 1] rfl ?_
        have e := Option.some.inj h
        exact K8 e.symm
      · have h := zite_n h c
        refine g_iload_n dX2_beginOne_47 1 rfl ?_
        refine g_if_lt 101 dX2_beginOne_48 (by decide) (fun c => ?_) (fun c => ?_)
        · have h := zite_p h c
          refine g_aload_n dX2_beginOne_101 0 rfl ?_
          refine gf_i zfd_2_9 q1419  (fun _ h9 => h9) dX2_beginOne_102 h (fun v9 h => ?_)
          refine g_bipush (v := (40 : Int32)) dX2_beginOne_105 (by decide) ?_
          refine g_icmp_ne 117 dX2_beginOne_107 (by decide) (fun c => ?_) (fun c => ?_)
          · have h := zite_n h c
            refine g_aload_n dX2_beginOne_117 0 rfl ?_
            refine gf_i zfd_2_9 q1419  (fun _ h9 => h9) dX2_beginOne_118 h (fun v10 h => ?_)
            refine g_bipush (v := (45 : Int32)) dX2_beginOne_121 (by decide) ?_
            refine g_icmp_ne 132 dX2_beginOne_123 (by decide) (fun c => ?_) (fun c => ?_)
            · have h := zite_n h c
              refine g_aload_n dX2_beginOne_132 0 rfl ?_
              refine g_bipush (v := (97 : Int32)) dX2_beginOne_133 (by decide) ?_
              refine g_bipush (v := (99 : Int32)) dX2_beginOne_135 (by decide) ?_
              refine g_bipush (v := (114 : Int32)) dX2_beginOne_137 (by decide) ?_
              refine g_bipush (v := (111 : Int32)) dX2_beginOne_139 (by decide) ?_
              refine g_bipush (v := (115 : Int32)) dX2_beginOne_141 (by decide) ?_
              refine g_bipush (v := (115 : Int32)) dX2_beginOne_143 (by decide) ?_
              refine g_cSRv (rv := fun x : Int64 => Value.long x) [.int (97 : Int32), .int (99 : Int32), .int (114 : Int32), .int (111 : Int32), .int (115 : Int32), .int (115 : Int32)] (fun x0 e0 => ok_X2_w6 (xl X) g m (97 : Int32) (99 : Int32) (114 : Int32) (111 : Int32) (115 : Int32) (115 : Int32) x0 e0) (lw_S q1616 q1617 q126 q1618) hy_X2_w6 rfl ⟨by decide, by decide⟩ rfl (zc_r zc_0) (by decide) dX2_beginOne_145 h (fun w11 h => ?_)
              refine g_cVRv (rv := fun x : Int32 => Value.int x) [.long w11] (fun x0 e0 => ok_X2_isWord (xl X) g m a0 w11 x0 e0) zc2 (by decide) (lw_V q1612 q1614 qs63 q126 q1615) rfl hy_X2_isWord rfl ⟨by decide, by decide⟩ rfl zc_0 (by decide) dX2_beginOne_148 h (fun v12 h => ?_)
              refine g_if_eq 160 dX2_beginOne_151 (by decide) (fun c => ?_) (fun c => ?_)
              · have h := zite_p h c
                refine g_aload_n dX2_beginOne_160 0 rfl ?_
                refine g_bipush (v := (113 : Int32)) dX2_beginOne_161 (by decide) ?_
                refine g_bipush (v := (117 : Int32)) dX2_beginOne_163 (by decide) ?_
                refine g_bipush (v := (105 : Int32)) dX2_beginOne_165 (by decide) ?_
                refine g_bipush (v := (118 : Int32)) dX2_beginOne_167 (by decide) ?_
                refine g_bipush (v := (101 : Int32)) dX2_beginOne_169 (by decide) ?_
                refine g_bipush (v := (114 : Int32)) dX2_beginOne_171 (by decide) ?_
                refine g_cSRv (rv := fun x : Int64 => Value.long x) [.int (113 : Int32), .int (117 : Int32), .int (105 : Int32), .int (118 : Int32), .int (101 : Int32), .int (114 : Int32)] (fun x0 e0 => ok_X2_w6 (xl X) g m (113 : Int32) (117 : Int32) (105 : Int32) (118 : Int32) (101 : Int32) (114 : Int32) x0 e0) (lw_S q1616 q1617 q126 q1618) hy_X2_w6 rfl ⟨by decide, by decide⟩ rfl (zc_r zc_0) (by decide) dX2_beginOne_173 h (fun w13 h => ?_)
                refine g_cVRv (rv := fun x : Int32 => Value.int x) [.long w13] (fun x0 e0 => ok_X2_isWord (xl X) g m a0 w13 x0 e0) zc2 (by decide) (lw_V q1612 q1614 qs63 q126 q1615) rfl hy_X2_isWord rfl ⟨by decide, by decide⟩ rfl zc_0 (by decide) dX2_beginOne_176 h (fun v14 h => ?_)
                refine g_if_eq 188 dX2_beginOne_179 (by decide) (fun c => ?_) (fun c => ?_)
                · have h := zite_p h c
                  refine g_aload_n dX2_beginOne_188 0 rfl ?_
                  refine g_bipush (v := (105 : Int32)) dX2_beginOne_189 (by decide) ?_
                  refine g_bipush (v := (102 : Int32)) dX2_beginOne_191 (by decide) ?_
                  refine g_cSRv (rv := fun x : Int64 => Value.long x) [.int (105 : Int32), .int (102 : Int32)] (fun x0 e0 => ok_X2_w2 (xl X) g m (105 : Int32) (102 : Int32) x0 e0) (lw_S q1606 q1607 q126 q1608) hy_X2_w2 rfl ⟨by decide, by decide⟩ rfl (zc_r zc_0) (by decide) dX2_beginOne_193 h (fun w15 h => ?_)
                  refine g_cVRv (rv := fun x : Int32 => Value.int x) [.long w15] (fun x0 e0 => ok_X2_isWord (xl X) g m a0 w15 x0 e0) zc2 (by decide) (lw_V q1612 q1614 qs63 q126 q1615) rfl hy_X2_isWord rfl ⟨by decide, by decide⟩ rfl zc_0 (by decide) dX2_beginOne_196 h (fun v16 h => ?_)
                  refine g_if_eq 209 dX2_beginOne_199 (by decide) (fun c => ?_) (fun c => ?_)
                  · have h := zite_p h c
                    refine g_aload_n dX2_beginOne_209 0 rfl ?_
                    refine g_bipush (v := (110 : Int32)) dX2_beginOne_210 (by decide) ?_
                    refine g_bipush (v := (111 : Int32)) dX2_beginOne_212 (by decide) ?_
                    refine g_bipush (v := (116 : Int32)) dX2_beginOne_214 (by decide) ?_
                    refine g_cSRv (rv := fun x : Int64 => Value.long x) [.int (110 : Int32), .int (111 : Int32), .int (116 : Int32)] (fun x0 e0 => ok_X2_w3 (xl X) g m (110 : Int32) (111 : Int32) (116 : Int32) x0 e0) (lw_S q1603 q1604 q126 q1605) hy_X2_w3 rfl ⟨by decide, by decide⟩ rfl (zc_r zc_0) (by decide) dX2_beginOne_216 h (fun w17 h => ?_)
                    refine g_cVRv (rv := fun x : Int32 => Value.int x) [.long w17] (fun x0 e0 => ok_X2_isWord (xl X) g m a0 w17 x0 e0) zc2 (by decide) (lw_V q1612 q1614 qs63 q126 q1615) rfl hy_X2_isWord rfl ⟨by decide, by decide⟩ rfl zc_0 (by decide) dX2_beginOne_219 h (fun v18 h => ?_)
                    refine g_if_eq 241 dX2_beginOne_222 (by decide) (fun c => ?_) (fun c => ?_)
                    · have h := zite_p h c
                      refine g_iconst (v := (1 : Int32)) dX2_beginOne_241 (by decide) ?_
                      refine g_iret dX2_beginOne_242 hxt ?_
                      have e := Option.some.inj h
                      have e := hl8 _ e.symm
                      exact Kret _ _ e
                    · have h := zite_n h c
                      refine g_aload_n dX2_beginOne_225 0 rfl ?_
                      refine g_cVRv (rv := fun x : Int32 => Value.int x) [] (fun x0 e0 => ok_X2_isAskAhead (xl X) g m a0 x0 e0) zc2 (by decide) (lw_V q1697 q1699 qs82 q126 q1700) rfl hy_X2_isAskAhead rfl ⟨by decide, by decide⟩ rfl zc_0 (by decide) dX2_beginOne_226 h (fun v19 h => ?_)
                      refine g_if_eq 241 dX2_beginOne_229 (by decide) (fun c => ?_) (fun c => ?_)
                      · have h := zite_p h c
                        refine g_iconst (v := (1 : Int32)) dX2_beginOne_241 (by decide) ?_
                        refine g_iret dX2_beginOne_242 hxt ?_
                        have e := Option.some.inj h
                        have e := hl8 _ e.symm
                        exact Kret _ _ e
                      · have h := zite_n h c
                        refine g_aload_n dX2_beginOne_232 0 rfl ?_
                        refine g_bipush (v := (20 : Int32)) dX2_beginOne_233 (by decide) ?_
                        refine g_cVMv (rv := fun x : Int32 => Value.int x) [.int (20 : Int32)] (fun x0 m0 e0 => ok_X2_opened (xl X) g m a0 (20 : Int32) x0 m0 e0) zc2 (by decide) (lw_V q1693 q1695 qs81 q126 q1696) rfl hy_X2_opened rfl ⟨by decide, by decide⟩ rfl zc_0 (by decide) dX2_beginOne_235 h (fun v20 m21 h => ?_)
                        refine g_goto 242 dX2_beginOne_238 (by decide) ?_
                        refine g_iret dX2_beginOne_242 hxt ?_
                        have e := Option.some.inj h
                        have e := hl8 _ e.symm
                        exact Kret _ _ e
                  · have h := zite_n h c
                    refine g_aload_n dX2_beginOne_202 0 rfl ?_
                    refine g_bipush (v := (41 : Int32)) dX2_beginOne_203 (by decide) ?_
                    refine g_cVMv (rv := fun x : Int32 => Value.int x) [.int (41 : Int32)] (fun x0 m0 e0 => ok_X2_opened (xl X) g m a0 (41 : Int32) x0 m0 e0) zc2 (by decide) (lw_V q1693 q1695 qs81 q126 q1696) rfl hy_X2_opened rfl ⟨by decide, by decide⟩ rfl zc_0 (by decide) dX2_beginOne_205 h (fun v22 m23 h => ?_)
                    refine g_iret dX2_beginOne_208 hxt ?_
                    have e := Option.some.inj h
                    have e := hl8 _ e.symm
                    exact Kret _ _ e
                · have h := zite_n h c
                  refine g_aload_n dX2_beginOne_182 0 rfl ?_
                  refine g_iconst (v := (4 : Int32)) dX2_beginOne_183 (by decide) ?_
                  refine g_cVMv (rv := fun x : Int32 => Value.int x) [.int (4 : Int32)] (fun x0 m0 e0 => ok_X2_opened (xl X) g m a0 (4 : Int32) x0 m0 e0) zc2 (by decide) (lw_V q1693 q1695 qs81 q126 q1696) rfl hy_X2_opened rfl ⟨by decide, by decide⟩ rfl zc_0 (by decide) dX2_beginOne_184 h (fun v24 m25 h => ?_)
                  refine g_iret dX2_beginOne_187 hxt ?_
                  have e := Option.some.inj h
                  have e := hl8 _ e.symm
                  exact Kret _ _ e
              · have h := zite_n h c
                refine g_aload_n dX2_beginOne_154 0 rfl ?_
                refine g_iconst (v := (2 : Int32)) dX2_beginOne_155 (by decide) ?_
                refine g_cVMv (rv := fun x : Int32 => Value.int x) [.int (2 : Int32)] (fun x0 m0 e0 => ok_X2_opened (xl X) g m a0 (2 : Int32) x0 m0 e0) zc2 (by decide) (lw_V q1693 q1695 qs81 q126 q1696) rfl hy_X2_opened rfl ⟨by decide, by decide⟩ rfl zc_0 (by decide) dX2_beginOne_156 h (fun v26 m27 h => ?_)
                refine g_iret dX2_beginOne_159 hxt ?_
                have e := Option.some.inj h
                have e := hl8 _ e.symm
                exact Kret _ _ e
            · have h := zite_p h c
              refine g_aload_n dX2_beginOne_126 0 rfl ?_
              refine g_iconst (v := (5 : Int32)) dX2_beginOne_127 (by decide) ?_
              refine g_cVMv (rv := fun x : Int32 => Value.int x) [.int (5 : Int32)] (fun x0 m0 e0 => ok_X2_opened (xl X) g m a0 (5 : Int32) x0 m0 e0) zc2 (by decide) (lw_V q1693 q1695 qs81 q126 q1696) rfl hy_X2_opened rfl ⟨by decide, by decide⟩ rfl zc_0 (by decide) dX2_beginOne_128 h (fun v28 m29 h => ?_)
              refine g_iret dX2_beginOne_131 hxt ?_
              have e := Option.some.inj h
              have e := hl8 _ e.symm
              exact Kret _ _ e
          · have h := zite_p h c
            refine g_aload_n dX2_beginOne_110 0 rfl ?_
            refine g_bipush (v := (40 : Int32)) dX2_beginOne_111 (by decide) ?_
            refine g_cVMv (rv := fun x : Int32 => Value.int x) [.int (40 : Int32)] (fun x0 m0 e0 => ok_X2_opened (xl X) g m a0 (40 : Int32) x0 m0 e0) zc2 (by decide) (lw_V q1693 q1695 qs81 q126 q1696) rfl hy_X2_opened rfl ⟨by decide, by decide⟩ rfl zc_0 (by decide) dX2_beginOne_113 h (fun v30 m31 h => ?_)
            refine g_iret dX2_beginOne_116 hxt ?_
            have e := Option.some.inj h
            have e := hl8 _ e.symm
            exact Kret _ _ e
        · have h := zite_n h c
          refine zG.sub [0, 1] rfl ?_
          have e := Option.some.inj h
          exact K8 e.symm
    have h := h1
    refine g_if_lt 39 dX2_beginOne_26 (by decide) (fun c => ?_) (fun c => ?_)
    · have h := zite_p h c
      refine zG.sub [1, 0] rfl ?_
      have e := Option.some.inj h
      exact K5 e.symm
    · have h := zite_n h c
      refine g_aload_n dX2_beginOne_29 1 rfl ?_
      refine g_iload_n dX2_beginOne_30 0 rfl ?_
      refine g_cVRv (rv := fun x : Int32 => Value.int x) [.int v4] (fun x0 e0 => ok_X2_isOf (xl X) g m a0 v4 x0 e0) zc2 (by decide) (lw_V q1689 q1691 qs80 q126 q1692) rfl hy_X2_isOf rfl ⟨by decide, by decide⟩ rfl zc_0 (by decide) dX2_beginOne_31 h (fun v6 h => ?_)
      refine g_if_ne 39 dX2_beginOne_34 (by decide) (fun c => ?_) (fun c => ?_)
      · have h := zite_n h c
        refine zG.sub [1, 0] rfl ?_
        have e := Option.some.inj h
        exact K5 e.symm
      · have h := zite_p h c
        refine g_iconst (v := (5 : Int32)) dX2_beginOne_37 (by decide) ?_
        refine g_iret dX2_beginOne_38 hxt ?_
        have e := Option.some.inj h
        have e := hl5 _ e.symm
        exact Kret _ _ e
  have h := h1
  refine g_icmp_ne 20 dX2_beginOne_5 (by decide) (fun c => ?_) (fun c => ?_)
  · have h := zite_n h c
    refine zG.sub [0] rfl ?_
    have e := Option.some.inj h
    exact K2 e.symm
  · have h := zite_p h c
    refine g_aload_n dX2_beginOne_8 0 rfl ?_
    refine gf_i zfd_2_10 q1420  (fun _ h9 => h9) dX2_beginOne_9 h (fun v3 h => ?_)
    refine g_sipush (v := (9999 : Int32)) dX2_beginOne_12 (by decide) ?_
    refine g_icmp_le 20 dX2_beginOne_15 (by decide) (fun c => ?_) (fun c => ?_)
    · have h := zite_p h c
      refine zG.sub [0] rfl ?_
      have e := Option.some.inj h
      exact K2 e.symm
    · have h := zite_n h c
      refine g_iconst (v := (2 : Int32)) dX2_beginOne_18 (by decide) ?_
      refine g_iret dX2_beginOne_19 hxt ?_
      have e := Option.some.inj h
      have e := hl2 _ e.symm
      exact Kret _ _ e
/-! QuiverKinModel.compareOf -/
def f_X2_compareOf (g : zGd) (m : zMm) (a0 : Option Nat) : Option (Int32) :=
(zgi g m 2 9 a0).bind fun v1 =>
if v1 = (60 : Int32) then (some ((10 : Int32)))
else ((zgi g m 2 9 a0).bind fun v2 =>
if v2 = (4 : Int32) then (some ((11 : Int32)))
else ((zgi g m 2 9 a0).bind fun v3 =>
if v3 = (62 : Int32) then (some ((12 : Int32)))
else ((zgi g m 2 9 a0).bind fun v4 =>
if v4 = (5 : Int32) then (some ((13 : Int32)))
else ((zgi g m 2 9 a0).bind fun v5 =>
if v5 = (61 : Int32) then (some ((14 : Int32)))
else ((zgi g m 2 9 a0).bind fun v6 =>
if v6 = (35 : Int32) then (some ((15 : Int32)))
else (some ((-1 : Int32))))))))
theorem hy_X2_compareOf : zHy yX2_compareOf 0 := ⟨by decide, by decide, by decide +kernel⟩
set_option maxHeartbeats 4000000 in
theorem ok_X2_compareOf (l : Launch) (g : zGd) (m : zMm) (a0 : Option Nat) (z0 : Int32) (h : f_X2_compareOf g m a0 = some z0) : zCT l yX2_compareOf cX2_compareOf 1 (some .int) 1 20 g m [va_rf a0] (some (.int z0)) g m := by
  refine zCT.of (own := "QuiverKinModel") (mn := "compareOf") (by decide +kernel) rfl rfl (zla_r zla_0) (zls_r zls_0) (by decide) (fun X hxl hxg hxf hxt hxr hxn => ?_)
  have Kret : ∀ (y0 : Int32), y0 = z0 → zRe X g m (some (.int y0)) := by
    intro y0 e; cases e; exact ⟨hxf, hxr, hxn⟩
  subst hxl
  show zG X cX2_compareOf 1 "QuiverKinModel" "compareOf" 1 20 0 [(0, va_rf a0)] [] g m
  unfold f_X2_compareOf at h
  refine g_aload_n dX2_compareOf_0 0 rfl ?_
  refine gf_i zfd_2_9 q1419  (fun _ h9 => h9) dX2_compareOf_1 h (fun v1 h => ?_)
  refine g_bipush (v := (60 : Int32)) dX2_compareOf_4 (by decide) ?_
  refine g_icmp_ne 14 dX2_compareOf_6 (by decide) (fun c => ?_) (fun c => ?_)
  · have h := zite_n h c
    refine g_aload_n dX2_compareOf_14 0 rfl ?_
    refine gf_i zfd_2_9 q1419  (fun _ h9 => h9) dX2_compareOf_15 h (fun v2 h => ?_)
    refine g_iconst (v := (4 : Int32)) dX2_compareOf_18 (by decide) ?_
    refine g_icmp_ne 27 dX2_compareOf_19 (by decide) (fun c => ?_) (fun c => ?_)
    · have h := zite_n h c
      refine g_aload_n dX2_compareOf_27 0 rfl ?_
      refine gf_i zfd_2_9 q1419  (fun _ h9 => h9) dX2_compareOf_28 h (fun v3 h => ?_)
      refine g_bipush (v := (62 : Int32)) dX2_compareOf_31 (by decide) ?_
      refine g_icmp_ne 41 dX2_compareOf_33 (by decide) (fun c => ?_) (fun c => ?_)
      · have h := zite_n h c
        refine g_aload_n dX2_compareOf_41 0 rfl ?_
        refine gf_i zfd_2_9 q1419  (fun _ h9 => h9) dX2_compareOf_42 h (fun v4 h => ?_)
        refine g_iconst (v := (5 : Int32)) dX2_compareOf_45 (by decide) ?_
        refine g_icmp_ne 54 dX2_compareOf_46 (by decide) (fun c => ?_) (fun c => ?_)
        · have h := zite_n h c
          refine g_aload_n dX2_compareOf_54 0 rfl ?_
          refine gf_i zfd_2_9 q1419  (fun _ h9 => h9) dX2_compareOf_55 h (fun v5 h => ?_)
          refine g_bipush (v := (61 : Int32)) dX2_compareOf_58 (by decide) ?_
          refine g_icmp_ne 68 dX2_compareOf_60 (by decide) (fun c => ?_) (fun c => ?_)
          · have h := zite_n h c
            refine g_aload_n dX2_compareOf_68 0 rfl ?_
            refine gf_i zfd_2_9 q1419  (fun _ h9 => h9) dX2_compareOf_69 h (fun v6 h => ?_)
            refine g_bipush (v := (35 : Int32)) dX2_compareOf_72 (by decide) ?_
            refine g_icmp_ne 82 dX2_compareOf_74 (by decide) (fun c => ?_) (fun c => ?_)
            · have h := zite_n h c
              refine g_iconst (v := (-1 : Int32)) dX2_compareOf_82 (by decide) ?_
              refine g_iret dX2_compareOf_83 hxt ?_
              have e := Option.some.inj h
              exact Kret _ e
            · have h := zite_p h c
              refine g_bipush (v := (15 : Int32)) dX2_compareOf_77 (by decide) ?_
              refine g_goto 83 dX2_compareOf_79 (by decide) ?_
              refine g_iret dX2_compareOf_83 hxt ?_
              have e := Option.some.inj h
              exact Kret _ e
          · have h := zite_p h c
            refine g_bipush (v := (14 : Int32)) dX2_compareOf_63 (by decide) ?_
            refine g_goto 83 dX2_compareOf_65 (by decide) ?_
            refine g_iret dX2_compareOf_83 hxt ?_
            have e := Option.some.inj h
            exact Kret _ e
        · have h := zite_p h c
          refine g_bipush (v := (13 : Int32)) dX2_compareOf_49 (by decide) ?_
          refine g_goto 83 dX2_compareOf_51 (by decide) ?_
          refine g_iret dX2_compareOf_83 hxt ?_
          have e := Option.some.inj h
          exact Kret _ e
      · have h := zite_p h c
        refine g_bipush (v := (12 : Int32)) dX2_compareOf_36 (by decide) ?_
        refine g_goto 83 dX2_compareOf_38 (by decide) ?_
        refine g_iret dX2_compareOf_83 hxt ?_
        have e := Option.some.inj h
        exact Kret _ e
    · have h := zite_p h c
      refine g_bipush (v := (11 : Int32)) dX2_compareOf_22 (by decide) ?_
      refine g_goto 83 dX2_compareOf_24 (by decide) ?_
      refine g_iret dX2_compareOf_83 hxt ?_
      have e := Option.some.inj h
      exact Kret _ e
  · have h := zite_p h c
    refine g_bipush (v := (10 : Int32)) dX2_compareOf_9 (by decide) ?_
    refine g_goto 83 dX2_compareOf_11 (by decide) ?_
    refine g_iret dX2_compareOf_83 hxt ?_
    have e := Option.some.inj h
    exact Kret _ e
/-! QuiverKinModel.isCompared -/
def b_X2_isCompared_7 (g : zGd) (m : zMm) (a0 : Option Nat) : Int32 → Option ((Int32) ⊕ (Int32)) := fun v6 =>
if v6 < 0 then (some (.inl v6))
else ((zgr g m 2 15 a0).bind fun r7 =>
(zald 101 g m r7 v6).bind fun v8 =>
(f_X2_rank v8).bind fun v9 =>
if v9 ≤ (4 : Int32) then (some (.inl v6))
else (zlt (v6 + (-1 : Int32)) fun v10 =>
some (.inr v10)))
def f_X2_isCompared (g : zGd) (m : zMm) (a0 : Option Nat) : Option (Int32) :=
(zgi g m 2 16 a0).bind fun v1 =>
zlt (v1 - (1 : Int32)) fun v2 =>
(zLoop (b_X2_isCompared_7 g m a0) zFuel v2).bind fun v4 =>
if v4 < 0 then (some ((0 : Int32)))
else ((zgr g m 2 15 a0).bind fun r11 =>
(zald 101 g m r11 v4).bind fun v12 =>
(f_X2_rank v12).bind fun v13 =>
if v13 = (4 : Int32) then (some ((1 : Int32)))
else (some ((0 : Int32))))
theorem hy_X2_isCompared : zHy yX2_isCompared 0 := ⟨by decide, by decide, by decide +kernel⟩
set_option maxHeartbeats 4000000 in
theorem ok_X2_isCompared (l : Launch) (g : zGd) (m : zMm) (a0 : Option Nat) (z0 : Int32) (h : f_X2_isCompared g m a0 = some z0) : zCT l yX2_isCompared cX2_isCompared 2 (some .boolean) 2 40 g m [va_rf a0] (some (.int z0)) g m := by
  refine zCT.of (own := "QuiverKinModel") (mn := "isCompared") (by decide +kernel) rfl rfl (zla_r zla_0) (zls_r zls_0) (by decide) (fun X hxl hxg hxf hxt hxr hxn => ?_)
  have Kret : ∀ (y0 : Int32), y0 = z0 → zRe X g m (some (.int y0)) := by
    intro y0 e; cases e; exact ⟨hxf, hxr, hxn⟩
  subst hxl
  show zG X cX2_isCompared 2 "QuiverKinModel" "isCompared" 2 40 0 [(0, va_rf a0)] [] g m
  unfold f_X2_isCompared at h
  refine g_aload_n dX2_isCompared_0 0 rfl ?_
  refine gf_i zfd_2_16 q1426  (fun _ h9 => h9) dX2_isCompared_1 h (fun v1 h => ?_)
  refine g_iconst (v := (1 : Int32)) dX2_isCompared_4 (by decide) ?_
  refine g_isub dX2_isCompared_5 ?_
  refine g_leti h (fun v2 h => ?_)
  refine g_istore_n [(1, .int v2), (0, va_rf a0)] dX2_isCompared_6 (by decide) (zf_r zf_0) rfl ?_
  obtain ⟨o3, h1, h2⟩ := zB_e h
  have K3 : ∀ (v4 : Int32), o3 = v4 → zG X cX2_isCompared 2 "QuiverKinModel" "isCompared" 2 40 30 [(0, va_rf a0), (1, .int v4)] [] g m := by
    intro v4 e
    rw [e] at h2
    have h := h2
    refine g_iload_n dX2_isCompared_30 1 rfl ?_
    refine g_if_lt 51 dX2_isCompared_31 (by decide) (fun c => ?_) (fun c => ?_)
    · have h := zite_p h c
      refine g_iconst (v := (0 : Int32)) dX2_isCompared_51 (by decide) ?_
      refine g_zret dX2_isCompared_52 hxt rfl ?_
      have e := Option.some.inj h
      exact Kret _ e
    · have h := zite_n h c
      refine g_aload_n dX2_isCompared_34 0 rfl ?_
      refine gf_r zfd_2_15 q1425  (fun _ h9 => h9) dX2_isCompared_35 h (fun r11 h => ?_)
      refine g_iload_n dX2_isCompared_38 1 rfl ?_
      refine g_iald dX2_isCompared_39 h (fun v12 h => ?_)
      refine g_cSRv (rv := fun x : Int32 => Value.int x) [.int v12] (fun x0 e0 => ok_X2_rank (xl X) g m v12 x0 e0) (lw_S q1662 q1663 q126 q1664) hy_X2_rank rfl ⟨by decide, by decide⟩ rfl zc_0 (by decide) dX2_isCompared_40 h (fun v13 h => ?_)
      refine g_iconst (v := (4 : Int32)) dX2_isCompared_43 (by decide) ?_
      refine g_icmp_ne 51 dX2_isCompared_44 (by decide) (fun c => ?_) (fun c => ?_)
      · have h := zite_n h c
        refine g_iconst (v := (0 : Int32)) dX2_isCompared_51 (by decide) ?_
        refine g_zret dX2_isCompared_52 hxt rfl ?_
        have e := Option.some.inj h
        exact Kret _ e
      · have h := zite_p h c
        refine g_iconst (v := (1 : Int32)) dX2_isCompared_47 (by decide) ?_
        refine g_goto 52 dX2_isCompared_48 (by decide) ?_
        refine g_zret dX2_isCompared_52 hxt rfl ?_
        have e := Option.some.inj h
        exact Kret _ e
  refine zG.sub [1, 0] rfl ?_
  refine zLoop_ok (Φ := (fun v6 : Int32 => zG X cX2_isCompared 2 "QuiverKinModel" "isCompared" 2 40 7 [(0, va_rf a0), (1, .int v6)] [] g m)) o3 ?_ zFuel _ h1
  rintro v6 x5 h hl5 hr5
  unfold b_X2_isCompared_7 at h
  have K5 : ∀ (v6 : Int32), x5 = .inr v6 → zG X cX2_isCompared 2 "QuiverKinModel" "isCompared" 2 40 7 [(0, va_rf a0), (1, .int v6)] [] g m := by
    intro v6 e
    exact hr5 _ e
  show zG X cX2_isCompared 2 "QuiverKinModel" "isCompared" 2 40 7 [(0, va_rf a0), (1, .int v6)] [] g m
  refine g_iload_n dX2_isCompared_7 1 rfl ?_
  refine g_if_lt 30 dX2_isCompared_8 (by decide) (fun c => ?_) (fun c => ?_)
  · have h := zite_p h c
    refine zG.sub [0, 1] rfl ?_
    have e := Option.some.inj h
    have e := hl5 _ e.symm
    exact K3 _ e.symm
  · have h := zite_n h c
    refine g_aload_n dX2_isCompared_11 0 rfl ?_
    refine gf_r zfd_2_15 q1425  (fun _ h9 => h9) dX2_isCompared_12 h (fun r7 h => ?_)
    refine g_iload_n dX2_isCompared_15 1 rfl ?_
    refine g_iald dX2_isCompared_16 h (fun v8 h => ?_)
    refine g_cSRv (rv := fun x : Int32 => Value.int x) [.int v8] (fun x0 e0 => ok_X2_rank (xl X) g m v8 x0 e0) (lw_S q1662 q1663 q126 q1664) hy_X2_rank rfl ⟨by decide, by decide⟩ rfl zc_0 (by decide) dX2_isCompared_17 h (fun v9 h => ?_)
    refine g_iconst (v := (4 : Int32)) dX2_isCompared_20 (by decide) ?_
    refine g_icmp_le 30 dX2_isCompared_21 (by decide) (fun c => ?_) (fun c => ?_)
    · have h := zite_p h c
      refine zG.sub [0, 1] rfl ?_
      have e := Option.some.inj h
      have e := hl5 _ e.symm
      exact K3 _ e.symm
    · have h := zite_n h c
      refine g_iinc (v := (-1 : Int32)) [(0, va_rf a0)] dX2_isCompared_24 1 rfl (by decide) (by decide) (zf_r (zf_i zf_0)) rfl h (fun v10 h => ?_)
      refine g_goto 7 dX2_isCompared_27 (by decide) ?_
      refine zG.sub [1, 0] rfl ?_
      have e := Option.some.inj h
      exact K5 _ e.symm
/-! QuiverKinModel.betweenOf -/
def f_X2_betweenOf (g : zGd) (m : zMm) (a0 : Option Nat) : Option (Int32) :=
(zgi g m 2 9 a0).bind fun v1 =>
if v1 = (43 : Int32) then (some ((6 : Int32)))
else ((zgi g m 2 9 a0).bind fun v2 =>
if v2 = (45 : Int32) then (some ((7 : Int32)))
else ((zgi g m 2 9 a0).bind fun v3 =>
if v3 = (42 : Int32) then (some ((8 : Int32)))
else ((zgi g m 2 9 a0).bind fun v4 =>
if v4 = (47 : Int32) then (some ((9 : Int32)))
else ((zrc g 2 a0 (f_X2_openNow g m a0)).bind fun v5 =>
if v5 = (41 : Int32) then ((zrc g 2 a0 (f_X2_isCompared g m a0)).bind fun v6 =>
if v6 = 0 then ((zrc g 2 a0 (f_X2_compareOf g m a0)).bind fun v11 =>
some (v11))
else ((f_X2_w3 (97 : Int32) (110 : Int32) (100 : Int32)).bind fun w7 =>
(zrc g 2 a0 (f_X2_isWord g m a0 w7)).bind fun v8 =>
if v8 = 0 then ((f_X2_w2 (111 : Int32) (114 : Int32)).bind fun w9 =>
(zrc g 2 a0 (f_X2_isWord g m a0 w9)).bind fun v10 =>
if v10 = 0 then (some ((-1 : Int32)))
else (some ((22 : Int32))))
else (some ((21 : Int32)))))
else (some ((-1 : Int32)))))))
theorem hy_X2_betweenOf : zHy yX2_betweenOf 0 := ⟨by decide, by decide, by decide +kernel⟩
set_option maxHeartbeats 4000000 in
theorem ok_X2_betweenOf (l : Launch) (g : zGd) (m : zMm) (a0 : Option Nat) (z0 : Int32) (h : f_X2_betweenOf g m a0 = some z0) : zCT l yX2_betweenOf cX2_betweenOf 1 (some .int) 3 63 g m [va_rf a0] (some (.int z0)) g m := by
  refine zCT.of (own := "QuiverKinModel") (mn := "betweenOf") (by decide +kernel) rfl rfl (zla_r zla_0) (zls_r zls_0) (by decide) (fun X hxl hxg hxf hxt hxr hxn => ?_)
  have Kret : ∀ (y0 : Int32), y0 = z0 → zRe X g m (some (.int y0)) := by
    intro y0 e; cases e; exact ⟨hxf, hxr, hxn⟩
  subst hxl
  show zG X cX2_betweenOf 1 "QuiverKinModel" "betweenOf" 3 63 0 [(0, va_rf a0)] [] g m
  unfold f_X2_betweenOf at h
  refine g_aload_n dX2_betweenOf_0 0 rfl ?_
  refine gf_i zfd_2_9 q1419  (fun _ h9 => h9) dX2_betweenOf_1 h (fun v1 h => ?_)
  refine g_bipush (v := (43 : Int32)) dX2_betweenOf_4 (by decide) ?_
  refine g_icmp_ne 12 dX2_betweenOf_6 (by decide) (fun c => ?_) (fun c => ?_)
  · have h := zite_n h c
    refine g_aload_n dX2_betweenOf_12 0 rfl ?_
    refine gf_i zfd_2_9 q1419  (fun _ h9 => h9) dX2_betweenOf_13 h (fun v2 h => ?_)
    refine g_bipush (v := (45 : Int32)) dX2_betweenOf_16 (by decide) ?_
    refine g_icmp_ne 24 dX2_betweenOf_18 (by decide) (fun c => ?_) (fun c => ?_)
    · have h := zite_n h c
      refine g_aload_n dX2_betweenOf_24 0 rfl ?_
      refine gf_i zfd_2_9 q1419  (fun _ h9 => h9) dX2_betweenOf_25 h (fun v3 h => ?_)
      refine g_bipush (v := (42 : Int32)) dX2_betweenOf_28 (by decide) ?_
      refine g_icmp_ne 36 dX2_betweenOf_30 (by decide) (fun c => ?_) (fun c => ?_)
      · have h := zite_n h c
        refine g_aload_n dX2_betweenOf_36 0 rfl ?_
        refine gf_i zfd_2_9 q1419  (fun _ h9 => h9) dX2_betweenOf_37 h (fun v4 h => ?_)
        refine g_bipush (v := (47 : Int32)) dX2_betweenOf_40 (by decide) ?_
        refine g_icmp_ne 48 dX2_betweenOf_42 (by decide) (fun c => ?_) (fun c => ?_)
        · have h := zite_n h c
          refine g_aload_n dX2_betweenOf_48 0 rfl ?_
          refine g_cVRv (rv := fun x : Int32 => Value.int x) [] (fun x0 e0 => ok_X2_openNow (xl X) g m a0 x0 e0) zc2 (by decide) (lw_V q1650 q1652 qs71 q126 q1653) rfl hy_X2_openNow rfl ⟨by decide, by decide⟩ rfl zc_0 (by decide) dX2_betweenOf_49 h (fun v5 h => ?_)
          refine g_bipush (v := (41 : Int32)) dX2_betweenOf_52 (by decide) ?_
          refine g_icmp_eq 59 dX2_betweenOf_54 (by decide) (fun c => ?_) (fun c => ?_)
          · have h := zite_p h c
            refine g_aload_n dX2_betweenOf_59 0 rfl ?_
            refine g_cVRv (rv := fun x : Int32 => Value.int x) [] (fun x0 e0 => ok_X2_isCompared (xl X) g m a0 x0 e0) zc2 (by decide) (lw_V q1658 q1660 qs73 q126 q1661) rfl hy_X2_isCompared rfl ⟨by decide, by decide⟩ rfl zc_0 (by decide) dX2_betweenOf_60 h (fun v6 h => ?_)
            refine g_if_ne 71 dX2_betweenOf_63 (by decide) (fun c => ?_) (fun c => ?_)
            · have h := zite_n h c
              refine g_aload_n dX2_betweenOf_71 0 rfl ?_
              refine g_bipush (v := (97 : Int32)) dX2_betweenOf_72 (by decide) ?_
              refine g_bipush (v := (110 : Int32)) dX2_betweenOf_74 (by decide) ?_
              refine g_bipush (v := (100 : Int32)) dX2_betweenOf_76 (by decide) ?_
              refine g_cSRv (rv := fun x : Int64 => Value.long x) [.int (97 : Int32), .int (110 : Int32), .int (100 : Int32)] (fun x0 e0 => ok_X2_w3 (xl X) g m (97 : Int32) (110 : Int32) (100 : Int32) x0 e0) (lw_S q1603 q1604 q126 q1605) hy_X2_w3 rfl ⟨by decide, by decide⟩ rfl (zc_r zc_0) (by decide) dX2_betweenOf_78 h (fun w7 h => ?_)
              refine g_cVRv (rv := fun x : Int32 => Value.int x) [.long w7] (fun x0 e0 => ok_X2_isWord (xl X) g m a0 w7 x0 e0) zc2 (by decide) (lw_V q1612 q1614 qs63 q126 q1615) rfl hy_X2_isWord rfl ⟨by decide, by decide⟩ rfl zc_0 (by decide) dX2_betweenOf_81 h (fun v8 h => ?_)
              refine g_if_eq 92 dX2_betweenOf_84 (by decide) (fun c => ?_) (fun c => ?_)
              · have h := zite_p h c
                refine g_aload_n dX2_betweenOf_92 0 rfl ?_
                refine g_bipush (v := (111 : Int32)) dX2_betweenOf_93 (by decide) ?_
                refine g_bipush (v := (114 : Int32)) dX2_betweenOf_95 (by decide) ?_
                refine g_cSRv (rv := fun x : Int64 => Value.long x) [.int (111 : Int32), .int (114 : Int32)] (fun x0 e0 => ok_X2_w2 (xl X) g m (111 : Int32) (114 : Int32) x0 e0) (lw_S q1606 q1607 q126 q1608) hy_X2_w2 rfl ⟨by decide, by decide⟩ rfl (zc_r zc_0) (by decide) dX2_betweenOf_97 h (fun w9 h => ?_)
                refine g_cVRv (rv := fun x : Int32 => Value.int x) [.long w9] (fun x0 e0 => ok_X2_isWord (xl X) g m a0 w9 x0 e0) zc2 (by decide) (lw_V q1612 q1614 qs63 q126 q1615) rfl hy_X2_isWord rfl ⟨by decide, by decide⟩ rfl zc_0 (by decide) dX2_betweenOf_100 h (fun v10 h => ?_)
                refine g_if_eq 111 dX2_betweenOf_103 (by decide) (fun c => ?_) (fun c => ?_)
                · have h := zite_p h c
                  refine g_iconst (v := (-1 : Int32)) dX2_betweenOf_111 (by decide) ?_
                  refine g_iret dX2_betweenOf_112 hxt ?_
                  have e := Option.some.inj h
                  exact Kret _ e
                · have h := zite_n h c
                  refine g_bipush (v := (22 : Int32)) dX2_betweenOf_106 (by decide) ?_
                  refine g_goto 112 dX2_betweenOf_108 (by decide) ?_
                  refine g_iret dX2_betweenOf_112 hxt ?_
                  have e := Option.some.inj h
                  exact Kret _ e
              · have h := zite_n h c
                refine g_bipush (v := (21 : Int32)) dX2_betweenOf_87 (by decide) ?_
                refine g_goto 112 dX2_betweenOf_89 (by decide) ?_
                refine g_iret dX2_betweenOf_112 hxt ?_
                have e := Option.some.inj h
                exact Kret _ e
            · have h := zite_p h c
              refine g_aload_n dX2_betweenOf_66 0 rfl ?_
              refine g_cVRv (rv := fun x : Int32 => Value.int x) [] (fun x0 e0 => ok_X2_compareOf (xl X) g m a0 x0 e0) zc2 (by decide) (lw_V q1665 q1667 qs74 q126 q1668) rfl hy_X2_compareOf rfl ⟨by decide, by decide⟩ rfl zc_0 (by decide) dX2_betweenOf_67 h (fun v11 h => ?_)
              refine g_iret dX2_betweenOf_70 hxt ?_
              have e := Option.some.inj h
              exact Kret _ e
          · have h := zite_n h c
            refine g_iconst (v := (-1 : Int32)) dX2_betweenOf_57 (by decide) ?_
            refine g_iret dX2_betweenOf_58 hxt ?_
            have e := Option.some.inj h
            exact Kret _ e
        · have h := zite_p h c
          refine g_bipush (v := (9 : Int32)) dX2_betweenOf_45 (by decide) ?_
          refine g_iret dX2_betweenOf_47 hxt ?_
          have e := Option.some.inj h
          exact Kret _ e
      · have h := zite_p h c
        refine g_bipush (v := (8 : Int32)) dX2_betweenOf_33 (by decide) ?_
        refine g_iret dX2_betweenOf_35 hxt ?_
        have e := Option.some.inj h
        exact Kret _ e
    · have h := zite_p h c
      refine g_bipush (v := (7 : Int32)) dX2_betweenOf_21 (by decide) ?_
      refine g_iret dX2_betweenOf_23 hxt ?_
      have e := Option.some.inj h
      exact Kret _ e
  · have h := zite_p h c
    refine g_bipush (v := (6 : Int32)) dX2_betweenOf_9 (by decide) ?_
    refine g_iret dX2_betweenOf_11 hxt ?_
    have e := Option.some.inj h
    exact Kret _ e
/-! QuiverKinModel.partOf -/
def f_X2_partOf (g : zGd) (m : zMm) (a0 : Option Nat) (a1 : Int32) : Option (Int32) :=
if a1 = (40 : Int32) then ((zgi g m 2 9 a0).bind fun v1 =>
if v1 = (41 : Int32) then (some ((0 : Int32)))
else (some ((-1 : Int32))))
else if a1 = (41 : Int32) then ((f_X2_w4 (116 : Int32) (104 : Int32) (101 : Int32) (110 : Int32)).bind fun w2 =>
(zrc g 2 a0 (f_X2_isWord g m a0 w2)).bind fun v3 =>
if v3 = 0 then (some ((-1 : Int32)))
else ((zrc g 2 a0 (f_X2_isCompared g m a0)).bind fun v4 =>
if v4 = 0 then (some ((-1 : Int32)))
else (some ((42 : Int32)))))
else if a1 = (42 : Int32) then ((f_X2_w4 (101 : Int32) (108 : Int32) (115 : Int32) (101 : Int32)).bind fun w5 =>
(zrc g 2 a0 (f_X2_isWord g m a0 w5)).bind fun v6 =>
if v6 = 0 then (some ((-1 : Int32)))
else (some ((43 : Int32))))
else if a1 = (43 : Int32) then ((f_X2_w3 (101 : Int32) (110 : Int32) (100 : Int32)).bind fun w7 =>
(zrc g 2 a0 (f_X2_isWord g m a0 w7)).bind fun v8 =>
if v8 = 0 then (some ((-1 : Int32)))
else (some ((0 : Int32))))
else (some ((-1 : Int32)))
theorem hy_X2_partOf : zHy yX2_partOf 1 := ⟨by decide, by decide, by decide +kernel⟩
set_option maxHeartbeats 4000000 in
theorem ok_X2_partOf (l : Launch) (g : zGd) (m : zMm) (a0 : Option Nat) (a1 : Int32) (z0 : Int32) (h : f_X2_partOf g m a0 a1 = some z0) : zCT l yX2_partOf cX2_partOf 2 (some .int) 4 86 g m [va_rf a0, .int a1] (some (.int z0)) g m := by
  refine zCT.of (own := "QuiverKinModel") (mn := "partOf") (by decide +kernel) rfl rfl (zla_r (zla_i zla_0)) (zls_r (zls_i zls_0)) (by decide) (fun X hxl hxg hxf hxt hxr hxn => ?_)
  have Kret : ∀ (y0 : Int32), y0 = z0 → zRe X g m (some (.int y0)) := by
    intro y0 e; cases e; exact ⟨hxf, hxr, hxn⟩
  subst hxl
  show zG X cX2_partOf 2 "QuiverKinModel" "partOf" 4 86 0 [(0, va_rf a0), (1, .int a1)] [] g m
  unfold f_X2_partOf at h
  refine g_iload_n dX2_partOf_0 1 rfl ?_
  rcases Decidable.em (a1 = (40 : Int32)) with c | c40
  · have h := zite_p h c
    refine g_tsw (v := (40 : Int32)) (off := 31) 32 dX2_partOf_1 c (by decide) (by decide) (by decide) (by decide) ?_
    refine g_aload_n dX2_partOf_32 0 rfl ?_
    refine gf_i zfd_2_9 q1419  (fun _ h9 => h9) dX2_partOf_33 h (fun v1 h => ?_)
    refine g_bipush (v := (41 : Int32)) dX2_partOf_36 (by decide) ?_
    refine g_icmp_ne 45 dX2_partOf_38 (by decide) (fun c => ?_) (fun c => ?_)
    · have h := zite_n h c
      refine g_iconst (v := (-1 : Int32)) dX2_partOf_45 (by decide) ?_
      refine g_iret dX2_partOf_46 hxt ?_
      have e := Option.some.inj h
      exact Kret _ e
    · have h := zite_p h c
      refine g_iconst (v := (0 : Int32)) dX2_partOf_41 (by decide) ?_
      refine g_goto 46 dX2_partOf_42 (by decide) ?_
      refine g_iret dX2_partOf_46 hxt ?_
      have e := Option.some.inj h
      exact Kret _ e
  have h := zite_n h c40
  rcases Decidable.em (a1 = (41 : Int32)) with c | c41
  · have h := zite_p h c
    refine g_tsw (v := (41 : Int32)) (off := 46) 47 dX2_partOf_1 c (by decide) (by decide) (by decide) (by decide) ?_
    refine g_aload_n dX2_partOf_47 0 rfl ?_
    refine g_bipush (v := (116 : Int32)) dX2_partOf_48 (by decide) ?_
    refine g_bipush (v := (104 : Int32)) dX2_partOf_50 (by decide) ?_
    refine g_bipush (v := (101 : Int32)) dX2_partOf_52 (by decide) ?_
    refine g_bipush (v := (110 : Int32)) dX2_partOf_54 (by decide) ?_
    refine g_cSRv (rv := fun x : Int64 => Value.long x) [.int (116 : Int32), .int (104 : Int32), .int (101 : Int32), .int (110 : Int32)] (fun x0 e0 => ok_X2_w4 (xl X) g m (116 : Int32) (104 : Int32) (101 : Int32) (110 : Int32) x0 e0) (lw_S q1600 q1601 q126 q1602) hy_X2_w4 rfl ⟨by decide, by decide⟩ rfl (zc_r zc_0) (by decide) dX2_partOf_56 h (fun w2 h => ?_)
    refine g_cVRv (rv := fun x : Int32 => Value.int x) [.long w2] (fun x0 e0 => ok_X2_isWord (xl X) g m a0 w2 x0 e0) zc2 (by decide) (lw_V q1612 q1614 qs63 q126 q1615) rfl hy_X2_isWord rfl ⟨by decide, by decide⟩ rfl zc_0 (by decide) dX2_partOf_59 h (fun v3 h => ?_)
    refine g_if_eq 77 dX2_partOf_62 (by decide) (fun c => ?_) (fun c => ?_)
    · have h := zite_p h c
      refine g_iconst (v := (-1 : Int32)) dX2_partOf_77 (by decide) ?_
      refine g_iret dX2_partOf_78 hxt ?_
      have e := Option.some.inj h
      exact Kret _ e
    · have h := zite_n h c
      refine g_aload_n dX2_partOf_65 0 rfl ?_
      refine g_cVRv (rv := fun x : Int32 => Value.int x) [] (fun x0 e0 => ok_X2_isCompared (xl X) g m a0 x0 e0) zc2 (by decide) (lw_V q1658 q1660 qs73 q126 q1661) rfl hy_X2_isCompared rfl ⟨by decide, by decide⟩ rfl zc_0 (by decide) dX2_partOf_66 h (fun v4 h => ?_)
      refine g_if_eq 77 dX2_partOf_69 (by decide) (fun c => ?_) (fun c => ?_)
      · have h := zite_p h c
        refine g_iconst (v := (-1 : Int32)) dX2_partOf_77 (by decide) ?_
        refine g_iret dX2_partOf_78 hxt ?_
        have e := Option.some.inj h
        exact Kret _ e
      · have h := zite_n h c
        refine g_bipush (v := (42 : Int32)) dX2_partOf_72 (by decide) ?_
        refine g_goto 78 dX2_partOf_74 (by decide) ?_
        refine g_iret dX2_partOf_78 hxt ?_
        have e := Option.some.inj h
        exact Kret _ e
  have h := zite_n h c41
  rcases Decidable.em (a1 = (42 : Int32)) with c | c42
  · have h := zite_p h c
    refine g_tsw (v := (42 : Int32)) (off := 78) 79 dX2_partOf_1 c (by decide) (by decide) (by decide) (by decide) ?_
    refine g_aload_n dX2_partOf_79 0 rfl ?_
    refine g_bipush (v := (101 : Int32)) dX2_partOf_80 (by decide) ?_
    refine g_bipush (v := (108 : Int32)) dX2_partOf_82 (by decide) ?_
    refine g_bipush (v := (115 : Int32)) dX2_partOf_84 (by decide) ?_
    refine g_bipush (v := (101 : Int32)) dX2_partOf_86 (by decide) ?_
    refine g_cSRv (rv := fun x : Int64 => Value.long x) [.int (101 : Int32), .int (108 : Int32), .int (115 : Int32), .int (101 : Int32)] (fun x0 e0 => ok_X2_w4 (xl X) g m (101 : Int32) (108 : Int32) (115 : Int32) (101 : Int32) x0 e0) (lw_S q1600 q1601 q126 q1602) hy_X2_w4 rfl ⟨by decide, by decide⟩ rfl (zc_r zc_0) (by decide) dX2_partOf_88 h (fun w5 h => ?_)
    refine g_cVRv (rv := fun x : Int32 => Value.int x) [.long w5] (fun x0 e0 => ok_X2_isWord (xl X) g m a0 w5 x0 e0) zc2 (by decide) (lw_V q1612 q1614 qs63 q126 q1615) rfl hy_X2_isWord rfl ⟨by decide, by decide⟩ rfl zc_0 (by decide) dX2_partOf_91 h (fun v6 h => ?_)
    refine g_if_eq 102 dX2_partOf_94 (by decide) (fun c => ?_) (fun c => ?_)
    · have h := zite_p h c
      refine g_iconst (v := (-1 : Int32)) dX2_partOf_102 (by decide) ?_
      refine g_iret dX2_partOf_103 hxt ?_
      have e := Option.some.inj h
      exact Kret _ e
    · have h := zite_n h c
      refine g_bipush (v := (43 : Int32)) dX2_partOf_97 (by decide) ?_
      refine g_goto 103 dX2_partOf_99 (by decide) ?_
      refine g_iret dX2_partOf_103 hxt ?_
      have e := Option.some.inj h
      exact Kret _ e
  have h := zite_n h c42
  rcases Decidable.em (a1 = (43 : Int32)) with c | c43
  · have h := zite_p h c
    refine g_tsw (v := (43 : Int32)) (off := 103) 104 dX2_partOf_1 c (by decide) (by decide) (by decide) (by decide) ?_
    refine g_aload_n dX2_partOf_104 0 rfl ?_
    refine g_bipush (v := (101 : Int32)) dX2_partOf_105 (by decide) ?_
    refine g_bipush (v := (110 : Int32)) dX2_partOf_107 (by decide) ?_
    refine g_bipush (v := (100 : Int32)) dX2_partOf_109 (by decide) ?_
    refine g_cSRv (rv := fun x : Int64 => Value.long x) [.int (101 : Int32), .int (110 : Int32), .int (100 : Int32)] (fun x0 e0 => ok_X2_w3 (xl X) g m (101 : Int32) (110 : Int32) (100 : Int32) x0 e0) (lw_S q1603 q1604 q126 q1605) hy_X2_w3 rfl ⟨by decide, by decide⟩ rfl (zc_r zc_0) (by decide) dX2_partOf_111 h (fun w7 h => ?_)
    refine g_cVRv (rv := fun x : Int32 => Value.int x) [.long w7] (fun x0 e0 => ok_X2_isWord (xl X) g m a0 w7 x0 e0) zc2 (by decide) (lw_V q1612 q1614 qs63 q126 q1615) rfl hy_X2_isWord rfl ⟨by decide, by decide⟩ rfl zc_0 (by decide) dX2_partOf_114 h (fun v8 h => ?_)
    refine g_if_eq 124 dX2_partOf_117 (by decide) (fun c => ?_) (fun c => ?_)
    · have h := zite_p h c
      refine g_iconst (v := (-1 : Int32)) dX2_partOf_124 (by decide) ?_
      refine g_iret dX2_partOf_125 hxt ?_
      have e := Option.some.inj h
      exact Kret _ e
    · have h := zite_n h c
      refine g_iconst (v := (0 : Int32)) dX2_partOf_120 (by decide) ?_
      refine g_goto 125 dX2_partOf_121 (by decide) ?_
      refine g_iret dX2_partOf_125 hxt ?_
      have e := Option.some.inj h
      exact Kret _ e
  have h := zite_n h c43
  refine g_tswG (n := 4) (vs := [(40 : Int32), (41 : Int32), (42 : Int32), (43 : Int32)]) 126 dX2_partOf_1 (List.forall_mem_cons.mpr ⟨c40, List.forall_mem_cons.mpr ⟨c41, List.forall_mem_cons.mpr ⟨c42, List.forall_mem_cons.mpr ⟨c43, fun _ h9 => absurd h9 List.not_mem_nil⟩⟩⟩⟩) (by decide) (by decide) (by decide) ?_
  refine g_iconst (v := (-1 : Int32)) dX2_partOf_126 (by decide) ?_
  refine g_iret dX2_partOf_127 hxt ?_
  have e := Option.some.inj h
  exact Kret _ e
/-! QuiverKinModel.behindOne -/
def f_X2_behindOne (g : zGd) (m : zMm) (a0 : Option Nat) : Option (Int32 × zMm) :=
(zrc g 2 a0 (f_X2_betweenOf g m a0)).bind fun v1 =>
if v1 < 0 then ((zrc g 2 a0 (f_X2_openNow g m a0)).bind fun v2 =>
(zrc g 2 a0 (f_X2_partOf g m a0 v2)).bind fun v3 =>
if 0 ≤ v3 then ((zrc g 2 a0 (f_X2_settle g m a0 (1 : Int32))).bind fun m4 =>
(zrc g 2 a0 (f_X2_nextToken g m4 a0)).bind fun m5 =>
if v3 ≤ 0 then ((zgi g m5 2 17 a0).bind fun v6 =>
(zpi g m5 2 17 a0 (v6 - (1 : Int32))).bind fun m7 =>
(zgi g m7 2 16 a0).bind fun v8 =>
(zpi g m7 2 16 a0 (v8 - (1 : Int32))).bind fun m9 =>
((if v2 = (43 : Int32) then ((zrc g 2 a0 (f_X2_emit g m9 a0 (3 : Int32) (0 : Int32))).bind fun m12 =>
some (m12))
else (some (m9)) : Option (zMm))).bind fun m11 =>
(zrc g 2 a0 (f_X2_settle g m11 a0 (7 : Int32))).bind fun m13 =>
some (((1 : Int32), m13)))
else ((zgr g m5 2 15 a0).bind fun r14 =>
(zrc g 2 a0 (f_X2_openAt g m5 a0)).bind fun v15 =>
(zast 101 g m5 r14 v15 v3).bind fun m16 =>
(zpz g m16 2 18 a0 (0 : Int32)).bind fun m17 =>
some (((1 : Int32), m17))))
else (some (((0 : Int32), m))))
else ((f_X2_rank v1).bind fun v18 =>
((if v18 = (4 : Int32) then (some ((5 : Int32)))
else ((f_X2_rank v1).bind fun v21 =>
some (v21)) : Option (Int32))).bind fun v20 =>
(zrc g 2 a0 (f_X2_settle g m a0 v20)).bind fun m22 =>
(zgr g m22 2 15 a0).bind fun r23 =>
(zgi g m22 2 16 a0).bind fun v24 =>
(zast 101 g m22 r23 v24 v1).bind fun m25 =>
(zgi g m25 2 16 a0).bind fun v26 =>
(zpi g m25 2 16 a0 (v26 + (1 : Int32))).bind fun m27 =>
(zpz g m27 2 18 a0 (0 : Int32)).bind fun m28 =>
(zrc g 2 a0 (f_X2_nextToken g m28 a0)).bind fun m29 =>
some (((1 : Int32), m29)))
theorem hy_X2_behindOne : zHy yX2_behindOne 0 := ⟨by decide, by decide, by decide +kernel⟩
set_option maxHeartbeats 4000000 in
theorem ok_X2_behindOne (l : Launch) (g : zGd) (m : zMm) (a0 : Option Nat) (z0 : Int32) (m0 : zMm) (h : f_X2_behindOne g m a0 = some (z0, m0)) : zCT l yX2_behindOne cX2_behindOne 4 (some .boolean) 5 107 g m [va_rf a0] (some (.int z0)) g m0 := by
  refine zCT.of (own := "QuiverKinModel") (mn := "behindOne") (by decide +kernel) rfl rfl (zla_r zla_0) (zls_r zls_0) (by decide) (fun X hxl hxg hxf hxt hxr hxn => ?_)
  have Kret : ∀ (y0 : Int32) (y1 : zMm), (y0, y1) = (z0, m0) → zRe X g y1 (some (.int y0)) := by
    intro y0 y1 e; cases e; exact ⟨hxf, hxr, hxn⟩
  subst hxl
  show zG X cX2_behindOne 4 "QuiverKinModel" "behindOne" 5 107 0 [(0, va_rf a0)] [] g m
  unfold f_X2_behindOne at h
  refine g_aload_n dX2_behindOne_0 0 rfl ?_
  refine g_cVRv (rv := fun x : Int32 => Value.int x) [] (fun x0 e0 => ok_X2_betweenOf (xl X) g m a0 x0 e0) zc2 (by decide) (lw_V q1646 q1648 qs70 q126 q1649) rfl hy_X2_betweenOf rfl ⟨by decide, by decide⟩ rfl zc_0 (by decide) dX2_behindOne_1 h (fun v1 h => ?_)
  refine g_istore_n [(1, .int v1), (0, va_rf a0)] dX2_behindOne_4 (by decide) (zf_r zf_0) rfl ?_
  refine g_iload_n dX2_behindOne_5 0 rfl ?_
  refine g_if_lt 60 dX2_behindOne_6 (by decide) (fun c => ?_) (fun c => ?_)
  · have h := zite_p h c
    refine g_aload_n dX2_behindOne_60 1 rfl ?_
    refine g_cVRv (rv := fun x : Int32 => Value.int x) [] (fun x0 e0 => ok_X2_openNow (xl X) g m a0 x0 e0) zc2 (by decide) (lw_V q1650 q1652 qs71 q126 q1653) rfl hy_X2_openNow rfl ⟨by decide, by decide⟩ rfl zc_0 (by decide) dX2_behindOne_61 h (fun v2 h => ?_)
    refine g_istore_n [(2, .int v2), (1, .int v1), (0, va_rf a0)] dX2_behindOne_64 (by decide) (zf_i (zf_r zf_0)) rfl ?_
    refine g_aload_n dX2_behindOne_65 2 rfl ?_
    refine g_iload_n dX2_behindOne_66 0 rfl ?_
    refine g_cVRv (rv := fun x : Int32 => Value.int x) [.int v2] (fun x0 e0 => ok_X2_partOf (xl X) g m a0 v2 x0 e0) zc2 (by decide) (lw_V q1677 q1679 qs77 q126 q1680) rfl hy_X2_partOf rfl ⟨by decide, by decide⟩ rfl zc_0 (by decide) dX2_behindOne_67 h (fun v3 h => ?_)
    refine g_istore_n [(3, .int v3), (2, .int v2), (1, .int v1), (0, va_rf a0)] dX2_behindOne_70 (by decide) (zf_i (zf_i (zf_r zf_0))) rfl ?_
    refine g_iload_n dX2_behindOne_71 0 rfl ?_
    refine g_if_ge 77 dX2_behindOne_72 (by decide) (fun c => ?_) (fun c => ?_)
    · have h := zite_p h c
      refine g_aload_n dX2_behindOne_77 3 rfl ?_
      refine g_iconst (v := (1 : Int32)) dX2_behindOne_78 (by decide) ?_
      refine g_cVMn [.int (1 : Int32)] (fun m0 e0 => ok_X2_settle (xl X) g m a0 (1 : Int32) m0 e0) zc2 (by decide) (lw_V q1669 q1671 qs75 q126 q1672) rfl hy_X2_settle rfl ⟨by decide, by decide⟩ rfl zc_0 (by decide) dX2_behindOne_79 h (fun m4 h => ?_)
      refine g_aload_n dX2_behindOne_82 3 rfl ?_
      refine g_cVMn [] (fun m0 e0 => ok_X2_nextToken (xl X) g m4 a0 m0 e0) zc2 (by decide) (lw_V q1569 q1571 qs58 q126 q1572) rfl hy_X2_nextToken rfl ⟨by decide, by decide⟩ rfl zc_0 (by decide) dX2_behindOne_83 h (fun m5 h => ?_)
      refine g_iload_n dX2_behindOne_86 0 rfl ?_
      refine g_if_le 107 dX2_behindOne_87 (by decide) (fun c => ?_) (fun c => ?_)
      · have h := zite_p h c
        refine g_aload_n dX2_behindOne_107 3 rfl ?_
        refine g_dup dX2_behindOne_108 (zcat_r _) ?_
        refine gf_i zfd_2_17 q1427  (fun _ h9 => h9) dX2_behindOne_109 h (fun v6 h => ?_)
        refine g_iconst (v := (1 : Int32)) dX2_behindOne_112 (by decide) ?_
        refine g_isub dX2_behindOne_113 ?_
        refine gp_i zpd_2_17 q1427 (fun _ h9 => h9) dX2_behindOne_114 h (fun m7 h => ?_)
        refine g_aload_n dX2_behindOne_117 3 rfl ?_
        refine g_dup dX2_behindOne_118 (zcat_r _) ?_
        refine gf_i zfd_2_16 q1426  (fun _ h9 => h9) dX2_behindOne_119 h (fun v8 h => ?_)
        refine g_iconst (v := (1 : Int32)) dX2_behindOne_122 (by decide) ?_
        refine g_isub dX2_behindOne_123 ?_
        refine gp_i zpd_2_16 q1426 (fun _ h9 => h9) dX2_behindOne_124 h (fun m9 h => ?_)
        refine g_iload_n dX2_behindOne_127 1 rfl ?_
        refine g_bipush (v := (43 : Int32)) dX2_behindOne_128 (by decide) ?_
        obtain ⟨o10, h1, h2⟩ := zB_e h
        have K10 : ∀ (m11 : zMm), o10 = m11 → zG X cX2_behindOne 4 "QuiverKinModel" "behindOne" 5 107 139 [(0, va_rf a0)] [] g m11 := by
          intro m11 e
          rw [e] at h2
          have h := h2
          refine g_aload_n dX2_behindOne_139 0 rfl ?_
          refine g_bipush (v := (7 : Int32)) dX2_behindOne_140 (by decide) ?_
          refine g_cVMn [.int (7 : Int32)] (fun m0 e0 => ok_X2_settle (xl X) g m11 a0 (7 : Int32) m0 e0) zc2 (by decide) (lw_V q1669 q1671 qs75 q126 q1672) rfl hy_X2_settle rfl ⟨by decide, by decide⟩ rfl zc_0 (by decide) dX2_behindOne_142 h (fun m13 h => ?_)
          refine g_iconst (v := (1 : Int32)) dX2_behindOne_145 (by decide) ?_
          refine g_zret dX2_behindOne_146 hxt rfl ?_
          have e := Option.some.inj h
          exact Kret _ _ e
        have h := h1
        refine g_icmp_ne 139 dX2_behindOne_130 (by decide) (fun c => ?_) (fun c => ?_)
        · have h := zite_n h c
          refine zG.sub [3] rfl ?_
          have e := Option.some.inj h
          exact K10 _ e.symm
        · have h := zite_p h c
          refine g_aload_n dX2_behindOne_133 3 rfl ?_
          refine g_iconst (v := (3 : Int32)) dX2_behindOne_134 (by decide) ?_
          refine g_iconst (v := (0 : Int32)) dX2_behindOne_135 (by decide) ?_
          refine g_cVMn [.int (3 : Int32), .int (0 : Int32)] (fun m0 e0 => ok_X2_emit (xl X) g m9 a0 (3 : Int32) (0 : Int32) m0 e0) zc2 (by decide) (lw_V q1673 q1675 qs76 q126 q1676) rfl hy_X2_emit rfl ⟨by decide, by decide⟩ rfl zc_0 (by decide) dX2_behindOne_136 h (fun m12 h => ?_)
          refine zG.sub [3] rfl ?_
          have e := Option.some.inj h
          exact K10 _ e.symm
      · have h := zite_n h c
        refine g_aload_n dX2_behindOne_90 3 rfl ?_
        refine gf_r zfd_2_15 q1425  (fun _ h9 => h9) dX2_behindOne_91 h (fun r14 h => ?_)
        refine g_aload_n dX2_behindOne_94 3 rfl ?_
        refine g_cVRv (rv := fun x : Int32 => Value.int x) [] (fun x0 e0 => ok_X2_openAt (xl X) g m5 a0 x0 e0) zc2 (by decide) (lw_V q1654 q1656 qs72 q126 q1657) rfl hy_X2_openAt rfl ⟨by decide, by decide⟩ rfl (zc_r zc_0) (by decide) dX2_behindOne_95 h (fun v15 h => ?_)
        refine g_iload_n dX2_behindOne_98 0 rfl ?_
        refine g_iast dX2_behindOne_99 h (fun m16 h => ?_)
        refine g_aload_n dX2_behindOne_100 3 rfl ?_
        refine g_iconst (v := (0 : Int32)) dX2_behindOne_101 (by decide) ?_
        refine gp_z zpd_2_18 q1428 (fun _ h9 => h9) dX2_behindOne_102 h (fun m17 h => ?_)
        refine g_iconst (v := (1 : Int32)) dX2_behindOne_105 (by decide) ?_
        refine g_zret dX2_behindOne_106 hxt rfl ?_
        have e := Option.some.inj h
        exact Kret _ _ e
    · have h := zite_n h c
      refine g_iconst (v := (0 : Int32)) dX2_behindOne_75 (by decide) ?_
      refine g_zret dX2_behindOne_76 hxt rfl ?_
      have e := Option.some.inj h
      exact Kret _ _ e
  · have h := zite_n h c
    refine g_aload_n dX2_behindOne_9 1 rfl ?_
    refine g_iload_n dX2_behindOne_10 0 rfl ?_
    refine g_cSRv (rv := fun x : Int32 => Value.int x) [.int v1] (fun x0 e0 => ok_X2_rank (xl X) g m v1 x0 e0) (lw_S q1662 q1663 q126 q1664) hy_X2_rank rfl ⟨by decide, by decide⟩ rfl (zc_r zc_0) (by decide) dX2_behindOne_11 h (fun v18 h => ?_)
    refine g_iconst (v := (4 : Int32)) dX2_behindOne_14 (by decide) ?_
    obtain ⟨o19, h1, h2⟩ := zB_e h
    have K19 : ∀ (v20 : Int32), o19 = v20 → zG X cX2_behindOne 4 "QuiverKinModel" "behindOne" 5 107 26 [(0, va_rf a0), (1, .int v1)] [.int v20, va_rf a0] g m := by
      intro v20 e
      rw [e] at h2
      have h := h2
      refine g_cVMn [.int v20] (fun m0 e0 => ok_X2_settle (xl X) g m a0 v20 m0 e0) zc2 (by decide) (lw_V q1669 q1671 qs75 q126 q1672) rfl hy_X2_settle rfl ⟨by decide, by decide⟩ rfl zc_0 (by decide) dX2_behindOne_26 h (fun m22 h => ?_)
      refine g_aload_n dX2_behindOne_29 0 rfl ?_
      refine gf_r zfd_2_15 q1425  (fun _ h9 => h9) dX2_behindOne_30 h (fun r23 h => ?_)
      refine g_aload_n dX2_behindOne_33 0 rfl ?_
      refine gf_i zfd_2_16 q1426  (fun _ h9 => h9) dX2_behindOne_34 h (fun v24 h => ?_)
      refine g_iload_n dX2_behindOne_37 1 rfl ?_
      refine g_iast dX2_behindOne_38 h (fun m25 h => ?_)
      refine g_aload_n dX2_behindOne_39 0 rfl ?_
      refine g_dup dX2_behindOne_40 (zcat_r _) ?_
      refine gf_i zfd_2_16 q1426  (fun _ h9 => h9) dX2_behindOne_41 h (fun v26 h => ?_)
      refine g_iconst (v := (1 : Int32)) dX2_behindOne_44 (by decide) ?_
      refine g_iadd dX2_behindOne_45 ?_
      refine gp_i zpd_2_16 q1426 (fun _ h9 => h9) dX2_behindOne_46 h (fun m27 h => ?_)
      refine g_aload_n dX2_behindOne_49 0 rfl ?_
      refine g_iconst (v := (0 : Int32)) dX2_behindOne_50 (by decide) ?_
      refine gp_z zpd_2_18 q1428 (fun _ h9 => h9) dX2_behindOne_51 h (fun m28 h => ?_)
      refine g_aload_n dX2_behindOne_54 0 rfl ?_
      refine g_cVMn [] (fun m0 e0 => ok_X2_nextToken (xl X) g m28 a0 m0 e0) zc2 (by decide) (lw_V q1569 q1571 qs58 q126 q1572) rfl hy_X2_nextToken rfl ⟨by decide, by decide⟩ rfl zc_0 (by decide) dX2_behindOne_55 h (fun m29 h => ?_)
      refine g_iconst (v := (1 : Int32)) dX2_behindOne_58 (by decide) ?_
      refine g_zret dX2_behindOne_59 hxt rfl ?_
      have e := Option.some.inj h
      exact Kret _ _ e
    have h := h1
    refine g_icmp_ne 22 dX2_behindOne_15 (by decide) (fun c => ?_) (fun c => ?_)
    · have h := zite_n h c
      refine g_iload_n dX2_behindOne_22 0 rfl ?_
      refine g_cSRv (rv := fun x : Int32 => Value.int x) [.int v1] (fun x0 e0 => ok_X2_rank (xl X) g m v1 x0 e0) (lw_S q1662 q1663 q126 q1664) hy_X2_rank rfl ⟨by decide, by decide⟩ rfl (zc_r zc_0) (by decide) dX2_behindOne_23 h (fun v21 h => ?_)
      refine zG.sub [1, 0] rfl ?_
      have e := Option.some.inj h
      exact K19 _ e.symm
    · have h := zite_p h c
      refine g_iconst (v := (5 : Int32)) dX2_behindOne_18 (by decide) ?_
      refine g_goto 26 dX2_behindOne_19 (by decide) ?_
      refine zG.sub [1, 0] rfl ?_
      have e := Option.some.inj h
      exact K19 _ e.symm
/-! QuiverKinModel.summed -/
def b_X2_summed_15 (g : zGd) (a0 : Option Nat) : zMm → Option ((Int32 × zMm) ⊕ (zMm)) := fun m5 =>
(zgi g m5 2 18 a0).bind fun v6 =>
if v6 = 0 then ((zrc g 2 a0 (f_X2_beginOne g m5 a0)).bind fun (v7, m8) =>
if v7 = 0 then (some (.inr m8))
else (some (.inl ((v7, m8)))))
else ((zrc g 2 a0 (f_X2_behindOne g m5 a0)).bind fun (v9, m10) =>
if v9 = 0 then ((zrc g 2 a0 (f_X2_openNow g m10 a0)).bind fun v11 =>
if v11 < 0 then ((zrc g 2 a0 (f_X2_settle g m10 a0 (1 : Int32))).bind fun m12 =>
some (.inl (((0 : Int32), m12))))
else (some (.inl (((1 : Int32), m10)))))
else (some (.inr m10)))
def f_X2_summed (g : zGd) (m : zMm) (a0 : Option Nat) : Option (Int32 × zMm) :=
(zpi g m 2 16 a0 (0 : Int32)).bind fun m1 =>
(zpi g m1 2 17 a0 (0 : Int32)).bind fun m2 =>
(zpz g m2 2 18 a0 (0 : Int32)).bind fun m3 =>
zLoop (b_X2_summed_15 g a0) zFuel m3
theorem hy_X2_summed : zHy yX2_summed 0 := ⟨by decide, by decide, by decide +kernel⟩
set_option maxHeartbeats 4000000 in
theorem ok_X2_summed (l : Launch) (g : zGd) (m : zMm) (a0 : Option Nat) (z0 : Int32) (m0 : zMm) (h : f_X2_summed g m a0 = some (z0, m0)) : zCT l yX2_summed cX2_summed 2 (some .int) 8 176 g m [va_rf a0] (some (.int z0)) g m0 := by
  refine zCT.of (own := "QuiverKinModel") (mn := "summed") (by decide +kernel) rfl rfl (zla_r zla_0) (zls_r zls_0) (by decide) (fun X hxl hxg hxf hxt hxr hxn => ?_)
  have Kret : ∀ (y0 : Int32) (y1 : zMm), (y0, y1) = (z0, m0) → zRe X g y1 (some (.int y0)) := by
    intro y0 y1 e; cases e; exact ⟨hxf, hxr, hxn⟩
  subst hxl
  show zG X cX2_summed 2 "QuiverKinModel" "summed" 8 176 0 [(0, va_rf a0)] [] g m
  unfold f_X2_summed at h
  refine g_aload_n dX2_summed_0 0 rfl ?_
  refine g_iconst (v := (0 : Int32)) dX2_summed_1 (by decide) ?_
  refine gp_i zpd_2_16 q1426 (fun _ h9 => h9) dX2_summed_2 h (fun m1 h => ?_)
  refine g_aload_n dX2_summed_5 0 rfl ?_
  refine g_iconst (v := (0 : Int32)) dX2_summed_6 (by decide) ?_
  refine gp_i zpd_2_17 q1427 (fun _ h9 => h9) dX2_summed_7 h (fun m2 h => ?_)
  refine g_aload_n dX2_summed_10 0 rfl ?_
  refine g_iconst (v := (0 : Int32)) dX2_summed_11 (by decide) ?_
  refine gp_z zpd_2_18 q1428 (fun _ h9 => h9) dX2_summed_12 h (fun m3 h => ?_)
  refine zG.sub [0] rfl ?_
  refine zLoop_ok (Φ := (fun m5 : zMm => zG X cX2_summed 2 "QuiverKinModel" "summed" 8 176 15 [(0, va_rf a0)] [] g m5)) _ ?_ zFuel _ h
  rintro m5 x4 h hl4 hr4
  unfold b_X2_summed_15 at h
  have K4 : ∀ (m5 : zMm), x4 = .inr m5 → zG X cX2_summed 2 "QuiverKinModel" "summed" 8 176 15 [(0, va_rf a0)] [] g m5 := by
    intro m5 e
    exact hr4 _ e
  show zG X cX2_summed 2 "QuiverKinModel" "summed" 8 176 15 [(0, va_rf a0)] [] g m5
  refine g_aload_n dX2_summed_15 0 rfl ?_
  refine gf_i zfd_2_18 q1428  (fun _ h9 => h9) dX2_summed_16 h (fun v6 h => ?_)
  refine g_if_eq 48 dX2_summed_19 (by decide) (fun c => ?_) (fun c => ?_)
  · have h := zite_p h c
    refine g_aload_n dX2_summed_48 0 rfl ?_
    refine g_cVMv (rv := fun x : Int32 => Value.int x) [] (fun x0 m0 e0 => ok_X2_beginOne (xl X) g m5 a0 x0 m0 e0) zc2 (by decide) (lw_V q1681 q1683 qs78 q126 q1684) rfl hy_X2_beginOne rfl ⟨by decide, by decide⟩ rfl zc_0 (by decide) dX2_summed_49 h (fun v7 m8 h => ?_)
    refine g_istore_n [(1, .int v7), (0, va_rf a0)] dX2_summed_52 (by decide) (zf_r zf_0) rfl ?_
    refine g_iload_n dX2_summed_53 0 rfl ?_
    refine g_if_eq 59 dX2_summed_54 (by decide) (fun c => ?_) (fun c => ?_)
    · have h := zite_p h c
      refine g_goto 15 dX2_summed_59 (by decide) ?_
      refine zG.sub [1] rfl ?_
      have e := Option.some.inj h
      exact K4 _ e.symm
    · have h := zite_n h c
      refine g_iload_n dX2_summed_57 0 rfl ?_
      refine g_iret dX2_summed_58 hxt ?_
      have e := Option.some.inj h
      have e := hl4 _ e.symm
      exact Kret _ _ e
  · have h := zite_n h c
    refine g_aload_n dX2_summed_22 0 rfl ?_
    refine g_cVMv (rv := fun x : Int32 => Value.int x) [] (fun x0 m0 e0 => ok_X2_behindOne (xl X) g m5 a0 x0 m0 e0) zc2 (by decide) (lw_V q1642 q1644 qs69 q126 q1645) rfl hy_X2_behindOne rfl ⟨by decide, by decide⟩ rfl zc_0 (by decide) dX2_summed_23 h (fun v9 m10 h => ?_)
    refine g_if_eq 32 dX2_summed_26 (by decide) (fun c => ?_) (fun c => ?_)
    · have h := zite_p h c
      refine g_aload_n dX2_summed_32 0 rfl ?_
      refine g_cVRv (rv := fun x : Int32 => Value.int x) [] (fun x0 e0 => ok_X2_openNow (xl X) g m10 a0 x0 e0) zc2 (by decide) (lw_V q1650 q1652 qs71 q126 q1653) rfl hy_X2_openNow rfl ⟨by decide, by decide⟩ rfl zc_0 (by decide) dX2_summed_33 h (fun v11 h => ?_)
      refine g_if_lt 41 dX2_summed_36 (by decide) (fun c => ?_) (fun c => ?_)
      · have h := zite_p h c
        refine g_aload_n dX2_summed_41 0 rfl ?_
        refine g_iconst (v := (1 : Int32)) dX2_summed_42 (by decide) ?_
        refine g_cVMn [.int (1 : Int32)] (fun m0 e0 => ok_X2_settle (xl X) g m10 a0 (1 : Int32) m0 e0) zc2 (by decide) (lw_V q1669 q1671 qs75 q126 q1672) rfl hy_X2_settle rfl ⟨by decide, by decide⟩ rfl zc_0 (by decide) dX2_summed_43 h (fun m12 h => ?_)
        refine g_iconst (v := (0 : Int32)) dX2_summed_46 (by decide) ?_
        refine g_iret dX2_summed_47 hxt ?_
        have e := Option.some.inj h
        have e := hl4 _ e.symm
        exact Kret _ _ e
      · have h := zite_n h c
        refine g_iconst (v := (1 : Int32)) dX2_summed_39 (by decide) ?_
        refine g_iret dX2_summed_40 hxt ?_
        have e := Option.some.inj h
        have e := hl4 _ e.symm
        exact Kret _ _ e
    · have h := zite_n h c
      refine g_goto 15 dX2_summed_29 (by decide) ?_
      refine zG.sub [0] rfl ?_
      have e := Option.some.inj h
      exact K4 _ e.symm
