/-! methods (printed by gen/run2.py) -/
set_option maxRecDepth 100000
/-! QuiverKin$State.<init> -/
def f_X1_init (g : zGd) (m : zMm) (a0 : Option Nat) : Option (zGd × zMm) :=
zob a0 ((znewa 101 g m (7 : Int32)).bind fun (g1, m2) =>
zlt (some (zZ g)) fun r3 =>
(zpr g1 m2 1 0 a0 r3).bind fun m4 =>
(znewa 101 g1 m4 (116 : Int32)).bind fun (g5, m6) =>
zlt (some (zZ g1)) fun r7 =>
(zpr g5 m6 1 1 a0 r7).bind fun m8 =>
(znewa 101 g5 m8 (6 : Int32)).bind fun (g9, m10) =>
zlt (some (zZ g5)) fun r11 =>
(zpr g9 m10 1 2 a0 r11).bind fun m12 =>
(znewa 101 g9 m12 (36 : Int32)).bind fun (g13, m14) =>
zlt (some (zZ g9)) fun r15 =>
(zpr g13 m14 1 3 a0 r15).bind fun m16 =>
(znewa 101 g13 m16 (4 : Int32)).bind fun (g17, m18) =>
zlt (some (zZ g13)) fun r19 =>
(zpr g17 m18 1 4 a0 r19).bind fun m20 =>
(znewa 101 g17 m20 (4 : Int32)).bind fun (g21, m22) =>
zlt (some (zZ g17)) fun r23 =>
(zpr g21 m22 1 5 a0 r23).bind fun m24 =>
(zmulti g21 m24 (6 : Int32) (6 : Int32)).bind fun (g25, m26) =>
zlt (some (zZ g21)) fun r27 =>
(zpr g25 m26 1 6 a0 r27).bind fun m28 =>
(zmulti g25 m28 (6 : Int32) (2 : Int32)).bind fun (g29, m30) =>
zlt (some (zZ g25)) fun r31 =>
(zpr g29 m30 1 7 a0 r31).bind fun m32 =>
(zmulti g29 m32 (8 : Int32) (2 : Int32)).bind fun (g33, m34) =>
zlt (some (zZ g29)) fun r35 =>
(zpr g33 m34 1 8 a0 r35).bind fun m36 =>
(zmulti g33 m36 (8 : Int32) (2 : Int32)).bind fun (g37, m38) =>
zlt (some (zZ g33)) fun r39 =>
(zpr g37 m38 1 9 a0 r39).bind fun m40 =>
(zmulti g37 m40 (30 : Int32) (116 : Int32)).bind fun (g41, m42) =>
zlt (some (zZ g37)) fun r43 =>
(zpr g41 m42 1 10 a0 r43).bind fun m44 =>
(znewa 108 g41 m44 (4 : Int32)).bind fun (g45, m46) =>
zlt (some (zZ g41)) fun r47 =>
(zpr g45 m46 1 11 a0 r47).bind fun m48 =>
(zgr g45 m48 1 0 a0).bind fun r49 =>
(zast 101 g45 m48 r49 (2 : Int32) (-1 : Int32)).bind fun m50 =>
(zgr g45 m50 1 1 a0).bind fun r51 =>
(zast 101 g45 m50 r51 (1 : Int32) (421 : Int32)).bind fun m52 =>
some ((g45, m52)))
theorem hy_X1_init : zHy yX1_init 0 := ⟨by decide, by decide, by decide +kernel⟩
set_option maxHeartbeats 4000000 in
theorem ok_X1_init (l : Launch) (g : zGd) (m : zMm) (a0 : Option Nat) (g0 : zGd) (m0 : zMm) (h : f_X1_init g m a0 = some (g0, m0)) : zCT l yX1_init cX1_init 1 none 1 20 g m [va_rf a0] none g0 m0 := by
  refine zCT.of (own := "QuiverKin$State") (mn := "<init>") (by decide +kernel) rfl rfl (zla_r zla_0) (zls_r zls_0) (by decide) (fun X hxl hxg hxf hxt hxr hxn => ?_)
  have Kret : ∀ (y0 : zGd) (y1 : zMm), (y0, y1) = (g0, m0) → zRe X y0 y1 none := by
    intro y0 y1 e; cases e; exact ⟨hxf, hxr, hxn⟩
  subst hxl
  show zG X cX1_init 1 "QuiverKin$State" "<init>" 1 20 0 [(0, va_rf a0)] [] g m
  unfold f_X1_init at h
  refine g_aload_n dX1_init_0 0 rfl ?_
  obtain ⟨hs, h⟩ := zob_e h
  refine g_oinit q171 q164 q165 hs zc_0 (by decide) (by decide) dX1_init_1 ?_
  refine g_aload_n dX1_init_4 0 rfl ?_
  refine g_bipush (v := (7 : Int32)) dX1_init_5 (by decide) ?_
  refine g_newa 0 rfl (by decide) rfl q225 dX1_init_7 h (fun g1 m2 h => ?_)
  refine g_letr h (fun r3 h => ?_)
  refine gp_rF zpd_1_0 q176 (fun _ h9 => h9) rfl rfl dX1_init_9 h (fun m4 h => ?_)
  refine g_aload_n dX1_init_12 0 rfl ?_
  refine g_bipush (v := (116 : Int32)) dX1_init_13 (by decide) ?_
  refine g_newa 0 rfl (by decide) rfl q225 dX1_init_15 h (fun g5 m6 h => ?_)
  refine g_letr h (fun r7 h => ?_)
  refine gp_rF zpd_1_1 q178 (fun _ h9 => h9) rfl rfl dX1_init_17 h (fun m8 h => ?_)
  refine g_aload_n dX1_init_20 0 rfl ?_
  refine g_bipush (v := (6 : Int32)) dX1_init_21 (by decide) ?_
  refine g_newa 0 rfl (by decide) rfl q225 dX1_init_23 h (fun g9 m10 h => ?_)
  refine g_letr h (fun r11 h => ?_)
  refine gp_rF zpd_1_2 q180 (fun _ h9 => h9) rfl rfl dX1_init_25 h (fun m12 h => ?_)
  refine g_aload_n dX1_init_28 0 rfl ?_
  refine g_bipush (v := (36 : Int32)) dX1_init_29 (by decide) ?_
  refine g_newa 0 rfl (by decide) rfl q225 dX1_init_31 h (fun g13 m14 h => ?_)
  refine g_letr h (fun r15 h => ?_)
  refine gp_rF zpd_1_3 q182 (fun _ h9 => h9) rfl rfl dX1_init_33 h (fun m16 h => ?_)
  refine g_aload_n dX1_init_36 0 rfl ?_
  refine g_iconst (v := (4 : Int32)) dX1_init_37 (by decide) ?_
  refine g_newa 0 rfl (by decide) rfl q225 dX1_init_38 h (fun g17 m18 h => ?_)
  refine g_letr h (fun r19 h => ?_)
  refine gp_rF zpd_1_4 q184 (fun _ h9 => h9) rfl rfl dX1_init_40 h (fun m20 h => ?_)
  refine g_aload_n dX1_init_43 0 rfl ?_
  refine g_iconst (v := (4 : Int32)) dX1_init_44 (by decide) ?_
  refine g_newa 0 rfl (by decide) rfl q225 dX1_init_45 h (fun g21 m22 h => ?_)
  refine g_letr h (fun r23 h => ?_)
  refine gp_rF zpd_1_5 q186 (fun _ h9 => h9) rfl rfl dX1_init_47 h (fun m24 h => ?_)
  refine g_aload_n dX1_init_50 0 rfl ?_
  refine g_bipush (v := (6 : Int32)) dX1_init_51 (by decide) ?_
  refine g_bipush (v := (6 : Int32)) dX1_init_53 (by decide) ?_
  refine g_multi q172 q173 q225 dX1_init_55 h (fun g25 m26 h => ?_)
  refine g_letr h (fun r27 h => ?_)
  refine gp_rF zpd_1_6 q188 (fun _ h9 => h9) rfl rfl dX1_init_59 h (fun m28 h => ?_)
  refine g_aload_n dX1_init_62 0 rfl ?_
  refine g_bipush (v := (6 : Int32)) dX1_init_63 (by decide) ?_
  refine g_iconst (v := (2 : Int32)) dX1_init_65 (by decide) ?_
  refine g_multi q172 q173 q225 dX1_init_66 h (fun g29 m30 h => ?_)
  refine g_letr h (fun r31 h => ?_)
  refine gp_rF zpd_1_7 q190 (fun _ h9 => h9) rfl rfl dX1_init_70 h (fun m32 h => ?_)
  refine g_aload_n dX1_init_73 0 rfl ?_
  refine g_bipush (v := (8 : Int32)) dX1_init_74 (by decide) ?_
  refine g_iconst (v := (2 : Int32)) dX1_init_76 (by decide) ?_
  refine g_multi q172 q173 q225 dX1_init_77 h (fun g33 m34 h => ?_)
  refine g_letr h (fun r35 h => ?_)
  refine gp_rF zpd_1_8 q192 (fun _ h9 => h9) rfl rfl dX1_init_81 h (fun m36 h => ?_)
  refine g_aload_n dX1_init_84 0 rfl ?_
  refine g_bipush (v := (8 : Int32)) dX1_init_85 (by decide) ?_
  refine g_iconst (v := (2 : Int32)) dX1_init_87 (by decide) ?_
  refine g_multi q172 q173 q225 dX1_init_88 h (fun g37 m38 h => ?_)
  refine g_letr h (fun r39 h => ?_)
  refine gp_rF zpd_1_9 q194 (fun _ h9 => h9) rfl rfl dX1_init_92 h (fun m40 h => ?_)
  refine g_aload_n dX1_init_95 0 rfl ?_
  refine g_bipush (v := (30 : Int32)) dX1_init_96 (by decide) ?_
  refine g_bipush (v := (116 : Int32)) dX1_init_98 (by decide) ?_
  refine g_multi q172 q173 q225 dX1_init_100 h (fun g41 m42 h => ?_)
  refine g_letr h (fun r43 h => ?_)
  refine gp_rF zpd_1_10 q196 (fun _ h9 => h9) rfl rfl dX1_init_104 h (fun m44 h => ?_)
  refine g_aload_n dX1_init_107 0 rfl ?_
  refine g_iconst (v := (4 : Int32)) dX1_init_108 (by decide) ?_
  refine g_anew 7 rfl (by decide) q174 q175 dX1_init_109 h (fun g45 m46 h => ?_)
  refine g_letr h (fun r47 h => ?_)
  refine gp_rF zpd_1_11 q198 (fun _ h9 => h9) rfl rfl dX1_init_112 h (fun m48 h => ?_)
  refine g_aload_n dX1_init_115 0 rfl ?_
  refine gf_r zfd_1_0 q176  (fun _ h9 => h9) dX1_init_116 h (fun r49 h => ?_)
  refine g_iconst (v := (2 : Int32)) dX1_init_119 (by decide) ?_
  refine g_iconst (v := (-1 : Int32)) dX1_init_120 (by decide) ?_
  refine g_iast dX1_init_121 h (fun m50 h => ?_)
  refine g_aload_n dX1_init_122 0 rfl ?_
  refine gf_r zfd_1_1 q178  (fun _ h9 => h9) dX1_init_123 h (fun r51 h => ?_)
  refine g_iconst (v := (1 : Int32)) dX1_init_126 (by decide) ?_
  refine g_sipush (v := (421 : Int32)) dX1_init_127 (by decide) ?_
  refine g_iast dX1_init_130 h (fun m52 h => ?_)
  refine g_vret dX1_init_131 hxt ?_
  have e := Option.some.inj h
  exact Kret _ _ e
/-! QuiverKin$State.copy -/
def f_X1_copy (g : zGd) (m : zMm) (a0 : Option Nat) (a1 : Option Nat) : Option (zMm) :=
(zalen g a0).bind fun v1 =>
(zcpi g m a0 (0 : Int32) a1 (0 : Int32) v1).bind fun m2 =>
some (m2)
theorem hy_X1_copy : zHy yX1_copy 2 := ⟨by decide, by decide, by decide +kernel⟩
set_option maxHeartbeats 4000000 in
theorem ok_X1_copy (l : Launch) (g : zGd) (m : zMm) (a0 : Option Nat) (a1 : Option Nat) (m0 : zMm) (h : f_X1_copy g m a0 a1 = some m0) : zCT l yX1_copy cX1_copy 2 none 1 40 g m [va_rf a0, va_rf a1] none g m0 := by
  refine zCT.of (own := "QuiverKin$State") (mn := "copy") (by decide +kernel) rfl rfl (zla_r (zla_r zla_0)) (zls_r (zls_r zls_0)) (by decide) (fun X hxl hxg hxf hxt hxr hxn => ?_)
  have Kret : ∀ (y0 : zMm), y0 = m0 → zRe X g y0 none := by
    intro y0 e; cases e; exact ⟨hxf, hxr, hxn⟩
  subst hxl
  show zG X cX1_copy 2 "QuiverKin$State" "copy" 1 40 0 [(0, va_rf a0), (1, va_rf a1)] [] g m
  unfold f_X1_copy at h
  refine g_aload_n dX1_copy_0 0 rfl ?_
  refine g_iconst (v := (0 : Int32)) dX1_copy_1 (by decide) ?_
  refine g_aload_n dX1_copy_2 1 rfl ?_
  refine g_iconst (v := (0 : Int32)) dX1_copy_3 (by decide) ?_
  refine g_aload_n dX1_copy_4 0 rfl ?_
  refine g_alen dX1_copy_5 h (fun v1 h => ?_)
  refine g_cpyi q233 q235 q234 q125 zc_0 (by decide) (by decide) dX1_copy_6 h (fun m2 h => ?_)
  refine g_vret dX1_copy_9 hxt ?_
  have e := Option.some.inj h
  exact Kret _ e
/-! QuiverKin$State.copy -/
def b_X1_copy_2_2 (g : zGd) (a0 : Option Nat) (a1 : Option Nat) : Int32 × zMm → Option ((zMm) ⊕ (Int32 × zMm)) := fun (v4, m5) =>
(zalen g a0).bind fun v6 =>
if v6 ≤ v4 then (some (.inl m5))
else ((zaldr 106 g m5 a0 v4).bind fun r7 =>
(zaldr 106 g m5 a1 v4).bind fun r8 =>
(f_X1_copy g m5 r7 r8).bind fun m9 =>
zlt (v4 + (1 : Int32)) fun v10 =>
some (.inr (v10, m9)))
def f_X1_copy_2 (g : zGd) (m : zMm) (a0 : Option Nat) (a1 : Option Nat) : Option (zMm) :=
(zLoop (b_X1_copy_2_2 g a0 a1) zFuel ((0 : Int32), m)).bind fun m2 =>
some (m2)
theorem hy_X1_copy_2 : zHy yX1_copy_2 2 := ⟨by decide, by decide, by decide +kernel⟩
set_option maxHeartbeats 4000000 in
theorem ok_X1_copy_2 (l : Launch) (g : zGd) (m : zMm) (a0 : Option Nat) (a1 : Option Nat) (m0 : zMm) (h : f_X1_copy_2 g m a0 a1 = some m0) : zCT l yX1_copy_2 cX1_copy_2 3 none 2 61 g m [va_rf a0, va_rf a1] none g m0 := by
  refine zCT.of (own := "QuiverKin$State") (mn := "copy") (by decide +kernel) rfl rfl (zla_r (zla_r zla_0)) (zls_r (zls_r zls_0)) (by decide) (fun X hxl hxg hxf hxt hxr hxn => ?_)
  have Kret : ∀ (y0 : zMm), y0 = m0 → zRe X g y0 none := by
    intro y0 e; cases e; exact ⟨hxf, hxr, hxn⟩
  subst hxl
  show zG X cX1_copy_2 3 "QuiverKin$State" "copy" 2 61 0 [(0, va_rf a0), (1, va_rf a1)] [] g m
  unfold f_X1_copy_2 at h
  refine g_iconst (v := (0 : Int32)) dX1_copy_2_0 (by decide) ?_
  refine g_istore_n [(2, .int (0 : Int32)), (0, va_rf a0), (1, va_rf a1)] dX1_copy_2_1 (by decide) (zf_r (zf_r zf_0)) rfl ?_
  obtain ⟨o1, h1, h2⟩ := zB_e h
  have K1 : ∀ (m2 : zMm), o1 = m2 → zG X cX1_copy_2 3 "QuiverKin$State" "copy" 2 61 23 [] [] g m2 := by
    intro m2 e
    rw [e] at h2
    have h := h2
    refine g_vret dX1_copy_2_23 hxt ?_
    have e := Option.some.inj h
    exact Kret _ e
  refine zG.sub [1, 2, 0] rfl ?_
  refine zLoop_ok (Φ := (fun (q : Int32 × zMm) => match q with | (v4, m5) => zG X cX1_copy_2 3 "QuiverKin$State" "copy" 2 61 2 [(0, va_rf a0), (1, va_rf a1), (2, .int v4)] [] g m5)) o1 ?_ zFuel _ h1
  rintro ⟨v4, m5⟩ x3 h hl3 hr3
  unfold b_X1_copy_2_2 at h
  have K3 : ∀ (v4 : Int32) (m5 : zMm), x3 = .inr (v4, m5) → zG X cX1_copy_2 3 "QuiverKin$State" "copy" 2 61 2 [(0, va_rf a0), (1, va_rf a1), (2, .int v4)] [] g m5 := by
    intro v4 m5 e
    exact hr3 _ e
  show zG X cX1_copy_2 3 "QuiverKin$State" "copy" 2 61 2 [(0, va_rf a0), (1, va_rf a1), (2, .int v4)] [] g m5
  refine g_iload_n dX1_copy_2_2 2 rfl ?_
  refine g_aload_n dX1_copy_2_3 0 rfl ?_
  refine g_alen dX1_copy_2_4 h (fun v6 h => ?_)
  refine g_icmp_ge 23 dX1_copy_2_5 (by decide) (fun c => ?_) (fun c => ?_)
  · have h := zite_p h c
    refine zG.sub [] rfl ?_
    have e := Option.some.inj h
    have e := hl3 _ e.symm
    exact K1 _ e.symm
  · have h := zite_n h c
    refine g_aload_n dX1_copy_2_8 0 rfl ?_
    refine g_iload_n dX1_copy_2_9 2 rfl ?_
    refine g_aald 5 rfl rfl (by decide)  dX1_copy_2_10 h (fun r7 h => ?_)
    refine g_aload_n dX1_copy_2_11 1 rfl ?_
    refine g_iload_n dX1_copy_2_12 2 rfl ?_
    refine g_aald 5 rfl rfl (by decide)  dX1_copy_2_13 h (fun r8 h => ?_)
    refine g_cSMn [va_rf r7, va_rf r8] (fun m0 e0 => ok_X1_copy (xl X) g m5 r7 r8 m0 e0) (lw_S q230 q231 q124 q232) hy_X1_copy rfl ⟨by decide, by decide⟩ rfl zc_0 (by decide) dX1_copy_2_14 h (fun m9 h => ?_)
    refine g_iinc (v := (1 : Int32)) [(0, va_rf a0), (1, va_rf a1)] dX1_copy_2_17 2 rfl (by decide) (by decide) (zf_r (zf_r (zf_i zf_0))) rfl h (fun v10 h => ?_)
    refine g_goto 2 dX1_copy_2_20 (by decide) ?_
    refine zG.sub [1, 2, 0] rfl ?_
    have e := Option.some.inj h
    exact K3 _ _ e.symm
/-! QuiverKin$State.be -/
def f_X1_be (g : zGd) (m : zMm) (a0 : Option Nat) (a1 : Option Nat) : Option (zMm) :=
(zgr g m 1 0 a1).bind fun r1 =>
(zgr g m 1 0 a0).bind fun r2 =>
(f_X1_copy g m r1 r2).bind fun m3 =>
(zgr g m3 1 1 a1).bind fun r4 =>
(zgr g m3 1 1 a0).bind fun r5 =>
(f_X1_copy g m3 r4 r5).bind fun m6 =>
(zgr g m6 1 2 a1).bind fun r7 =>
(zgr g m6 1 2 a0).bind fun r8 =>
(f_X1_copy g m6 r7 r8).bind fun m9 =>
(zgr g m9 1 3 a1).bind fun r10 =>
(zgr g m9 1 3 a0).bind fun r11 =>
(f_X1_copy g m9 r10 r11).bind fun m12 =>
(zgr g m12 1 4 a1).bind fun r13 =>
(zgr g m12 1 4 a0).bind fun r14 =>
(f_X1_copy g m12 r13 r14).bind fun m15 =>
(zgr g m15 1 5 a1).bind fun r16 =>
(zgr g m15 1 5 a0).bind fun r17 =>
(f_X1_copy g m15 r16 r17).bind fun m18 =>
(zgr g m18 1 6 a1).bind fun r19 =>
(zgr g m18 1 6 a0).bind fun r20 =>
(f_X1_copy_2 g m18 r19 r20).bind fun m21 =>
(zgr g m21 1 7 a1).bind fun r22 =>
(zgr g m21 1 7 a0).bind fun r23 =>
(f_X1_copy_2 g m21 r22 r23).bind fun m24 =>
(zgr g m24 1 8 a1).bind fun r25 =>
(zgr g m24 1 8 a0).bind fun r26 =>
(f_X1_copy_2 g m24 r25 r26).bind fun m27 =>
(zgr g m27 1 9 a1).bind fun r28 =>
(zgr g m27 1 9 a0).bind fun r29 =>
(f_X1_copy_2 g m27 r28 r29).bind fun m30 =>
(zgr g m30 1 10 a1).bind fun r31 =>
(zgr g m30 1 10 a0).bind fun r32 =>
(f_X1_copy_2 g m30 r31 r32).bind fun m33 =>
(zgr g m33 1 11 a1).bind fun r34 =>
(zgr g m33 1 11 a0).bind fun r35 =>
(zcpr 7 g m33 r34 (0 : Int32) r35 (0 : Int32) (4 : Int32)).bind fun m36 =>
some (m36)
theorem hy_X1_be : zHy yX1_be 1 := ⟨by decide, by decide, by decide +kernel⟩
set_option maxHeartbeats 4000000 in
theorem ok_X1_be (l : Launch) (g : zGd) (m : zMm) (a0 : Option Nat) (a1 : Option Nat) (m0 : zMm) (h : f_X1_be g m a0 a1 = some m0) : zCT l yX1_be cX1_be 2 none 3 83 g m [va_rf a0, va_rf a1] none g m0 := by
  refine zCT.of (own := "QuiverKin$State") (mn := "be") (by decide +kernel) rfl rfl (zla_r (zla_r zla_0)) (zls_r (zls_r zls_0)) (by decide) (fun X hxl hxg hxf hxt hxr hxn => ?_)
  have Kret : ∀ (y0 : zMm), y0 = m0 → zRe X g y0 none := by
    intro y0 e; cases e; exact ⟨hxf, hxr, hxn⟩
  subst hxl
  show zG X cX1_be 2 "QuiverKin$State" "be" 3 83 0 [(0, va_rf a0), (1, va_rf a1)] [] g m
  unfold f_X1_be at h
  refine g_aload_n dX1_be_0 1 rfl ?_
  refine gf_r zfd_1_0 q176  (fun _ h9 => h9) dX1_be_1 h (fun r1 h => ?_)
  refine g_aload_n dX1_be_4 0 rfl ?_
  refine gf_r zfd_1_0 q176  (fun _ h9 => h9) dX1_be_5 h (fun r2 h => ?_)
  refine g_cSMn [va_rf r1, va_rf r2] (fun m0 e0 => ok_X1_copy (xl X) g m r1 r2 m0 e0) (lw_S q230 q231 q124 q232) hy_X1_copy rfl ⟨by decide, by decide⟩ rfl zc_0 (by decide) dX1_be_8 h (fun m3 h => ?_)
  refine g_aload_n dX1_be_11 1 rfl ?_
  refine gf_r zfd_1_1 q178  (fun _ h9 => h9) dX1_be_12 h (fun r4 h => ?_)
  refine g_aload_n dX1_be_15 0 rfl ?_
  refine gf_r zfd_1_1 q178  (fun _ h9 => h9) dX1_be_16 h (fun r5 h => ?_)
  refine g_cSMn [va_rf r4, va_rf r5] (fun m0 e0 => ok_X1_copy (xl X) g m3 r4 r5 m0 e0) (lw_S q230 q231 q124 q232) hy_X1_copy rfl ⟨by decide, by decide⟩ rfl zc_0 (by decide) dX1_be_19 h (fun m6 h => ?_)
  refine g_aload_n dX1_be_22 1 rfl ?_
  refine gf_r zfd_1_2 q180  (fun _ h9 => h9) dX1_be_23 h (fun r7 h => ?_)
  refine g_aload_n dX1_be_26 0 rfl ?_
  refine gf_r zfd_1_2 q180  (fun _ h9 => h9) dX1_be_27 h (fun r8 h => ?_)
  refine g_cSMn [va_rf r7, va_rf r8] (fun m0 e0 => ok_X1_copy (xl X) g m6 r7 r8 m0 e0) (lw_S q230 q231 q124 q232) hy_X1_copy rfl ⟨by decide, by decide⟩ rfl zc_0 (by decide) dX1_be_30 h (fun m9 h => ?_)
  refine g_aload_n dX1_be_33 1 rfl ?_
  refine gf_r zfd_1_3 q182  (fun _ h9 => h9) dX1_be_34 h (fun r10 h => ?_)
  refine g_aload_n dX1_be_37 0 rfl ?_
  refine gf_r zfd_1_3 q182  (fun _ h9 => h9) dX1_be_38 h (fun r11 h => ?_)
  refine g_cSMn [va_rf r10, va_rf r11] (fun m0 e0 => ok_X1_copy (xl X) g m9 r10 r11 m0 e0) (lw_S q230 q231 q124 q232) hy_X1_copy rfl ⟨by decide, by decide⟩ rfl zc_0 (by decide) dX1_be_41 h (fun m12 h => ?_)
  refine g_aload_n dX1_be_44 1 rfl ?_
  refine gf_r zfd_1_4 q184  (fun _ h9 => h9) dX1_be_45 h (fun r13 h => ?_)
  refine g_aload_n dX1_be_48 0 rfl ?_
  refine gf_r zfd_1_4 q184  (fun _ h9 => h9) dX1_be_49 h (fun r14 h => ?_)
  refine g_cSMn [va_rf r13, va_rf r14] (fun m0 e0 => ok_X1_copy (xl X) g m12 r13 r14 m0 e0) (lw_S q230 q231 q124 q232) hy_X1_copy rfl ⟨by decide, by decide⟩ rfl zc_0 (by decide) dX1_be_52 h (fun m15 h => ?_)
  refine g_aload_n dX1_be_55 1 rfl ?_
  refine gf_r zfd_1_5 q186  (fun _ h9 => h9) dX1_be_56 h (fun r16 h => ?_)
  refine g_aload_n dX1_be_59 0 rfl ?_
  refine gf_r zfd_1_5 q186  (fun _ h9 => h9) dX1_be_60 h (fun r17 h => ?_)
  refine g_cSMn [va_rf r16, va_rf r17] (fun m0 e0 => ok_X1_copy (xl X) g m15 r16 r17 m0 e0) (lw_S q230 q231 q124 q232) hy_X1_copy rfl ⟨by decide, by decide⟩ rfl zc_0 (by decide) dX1_be_63 h (fun m18 h => ?_)
  refine g_aload_n dX1_be_66 1 rfl ?_
  refine gf_r zfd_1_6 q188  (fun _ h9 => h9) dX1_be_67 h (fun r19 h => ?_)
  refine g_aload_n dX1_be_70 0 rfl ?_
  refine gf_r zfd_1_6 q188  (fun _ h9 => h9) dX1_be_71 h (fun r20 h => ?_)
  refine g_cSMn [va_rf r19, va_rf r20] (fun m0 e0 => ok_X1_copy_2 (xl X) g m18 r19 r20 m0 e0) (lw_S q236 q237 q124 q238) hy_X1_copy_2 rfl ⟨by decide, by decide⟩ rfl zc_0 (by decide) dX1_be_74 h (fun m21 h => ?_)
  refine g_aload_n dX1_be_77 1 rfl ?_
  refine gf_r zfd_1_7 q190  (fun _ h9 => h9) dX1_be_78 h (fun r22 h => ?_)
  refine g_aload_n dX1_be_81 0 rfl ?_
  refine gf_r zfd_1_7 q190  (fun _ h9 => h9) dX1_be_82 h (fun r23 h => ?_)
  refine g_cSMn [va_rf r22, va_rf r23] (fun m0 e0 => ok_X1_copy_2 (xl X) g m21 r22 r23 m0 e0) (lw_S q236 q237 q124 q238) hy_X1_copy_2 rfl ⟨by decide, by decide⟩ rfl zc_0 (by decide) dX1_be_85 h (fun m24 h => ?_)
  refine g_aload_n dX1_be_88 1 rfl ?_
  refine gf_r zfd_1_8 q192  (fun _ h9 => h9) dX1_be_89 h (fun r25 h => ?_)
  refine g_aload_n dX1_be_92 0 rfl ?_
  refine gf_r zfd_1_8 q192  (fun _ h9 => h9) dX1_be_93 h (fun r26 h => ?_)
  refine g_cSMn [va_rf r25, va_rf r26] (fun m0 e0 => ok_X1_copy_2 (xl X) g m24 r25 r26 m0 e0) (lw_S q236 q237 q124 q238) hy_X1_copy_2 rfl ⟨by decide, by decide⟩ rfl zc_0 (by decide) dX1_be_96 h (fun m27 h => ?_)
  refine g_aload_n dX1_be_99 1 rfl ?_
  refine gf_r zfd_1_9 q194  (fun _ h9 => h9) dX1_be_100 h (fun r28 h => ?_)
  refine g_aload_n dX1_be_103 0 rfl ?_
  refine gf_r zfd_1_9 q194  (fun _ h9 => h9) dX1_be_104 h (fun r29 h => ?_)
  refine g_cSMn [va_rf r28, va_rf r29] (fun m0 e0 => ok_X1_copy_2 (xl X) g m27 r28 r29 m0 e0) (lw_S q236 q237 q124 q238) hy_X1_copy_2 rfl ⟨by decide, by decide⟩ rfl zc_0 (by decide) dX1_be_107 h (fun m30 h => ?_)
  refine g_aload_n dX1_be_110 1 rfl ?_
  refine gf_r zfd_1_10 q196  (fun _ h9 => h9) dX1_be_111 h (fun r31 h => ?_)
  refine g_aload_n dX1_be_114 0 rfl ?_
  refine gf_r zfd_1_10 q196  (fun _ h9 => h9) dX1_be_115 h (fun r32 h => ?_)
  refine g_cSMn [va_rf r31, va_rf r32] (fun m0 e0 => ok_X1_copy_2 (xl X) g m30 r31 r32 m0 e0) (lw_S q236 q237 q124 q238) hy_X1_copy_2 rfl ⟨by decide, by decide⟩ rfl zc_0 (by decide) dX1_be_118 h (fun m33 h => ?_)
  refine g_aload_n dX1_be_121 1 rfl ?_
  refine gf_r zfd_1_11 q198  (fun _ h9 => h9) dX1_be_122 h (fun r34 h => ?_)
  refine g_iconst (v := (0 : Int32)) dX1_be_125 (by decide) ?_
  refine g_aload_n dX1_be_126 0 rfl ?_
  refine gf_r zfd_1_11 q198  (fun _ h9 => h9) dX1_be_127 h (fun r35 h => ?_)
  refine g_iconst (v := (0 : Int32)) dX1_be_130 (by decide) ?_
  refine g_iconst (v := (4 : Int32)) dX1_be_131 (by decide) ?_
  refine g_cpyr 7 rfl (by decide) q233 q235 q234 q125 zc_0 (by decide) (by decide) dX1_be_132 h (fun m36 h => ?_)
  refine g_vret dX1_be_135 hxt ?_
  have e := Option.some.inj h
  exact Kret _ e
/-! QuiverKin.<init> -/
def f_X0_init (g : zGd) (m : zMm) (a0 : Option Nat) : Option (zGd × zMm) :=
zob a0 (zlt (znewo g m 1) fun (g1, m2) =>
zlt (some (zZ g)) fun r3 =>
zob r3 ((f_X1_init g1 m2 r3).bind fun (g4, m5) =>
(zpr g4 m5 0 0 a0 r3).bind fun m6 =>
zlt (znewo g4 m6 1) fun (g7, m8) =>
zlt (some (zZ g4)) fun r9 =>
zob r9 ((f_X1_init g7 m8 r9).bind fun (g10, m11) =>
(zpr g10 m11 0 1 a0 r9).bind fun m12 =>
(znewa 102 g10 m12 (300 : Int32)).bind fun (g13, m14) =>
zlt (some (zZ g10)) fun r15 =>
(zpr g13 m14 0 2 a0 r15).bind fun m16 =>
(zpi g13 m16 0 4 a0 (-1 : Int32)).bind fun m17 =>
(zpi g13 m17 0 5 a0 (-1 : Int32)).bind fun m18 =>
(znewa 101 g13 m18 (19 : Int32)).bind fun (g19, m20) =>
zlt (some (zZ g13)) fun r21 =>
(zpr g19 m20 0 6 a0 r21).bind fun m22 =>
(znewa 101 g19 m22 (116 : Int32)).bind fun (g23, m24) =>
zlt (some (zZ g19)) fun r25 =>
(zpr g23 m24 0 7 a0 r25).bind fun m26 =>
(znewa 101 g23 m26 (6 : Int32)).bind fun (g27, m28) =>
zlt (some (zZ g23)) fun r29 =>
(zpr g27 m28 0 8 a0 r29).bind fun m30 =>
(znewa 101 g27 m30 (6 : Int32)).bind fun (g31, m32) =>
zlt (some (zZ g27)) fun r33 =>
(zpr g31 m32 0 9 a0 r33).bind fun m34 =>
(znewa 101 g31 m34 (125 : Int32)).bind fun (g35, m36) =>
zlt (some (zZ g31)) fun r37 =>
(zpr g35 m36 0 17 a0 r37).bind fun m38 =>
(znewa 101 g35 m38 (31 : Int32)).bind fun (g39, m40) =>
zlt (some (zZ g35)) fun r41 =>
(zpr g39 m40 0 19 a0 r41).bind fun m42 =>
(znewa 102 g39 m42 (7776 : Int32)).bind fun (g43, m44) =>
zlt (some (zZ g39)) fun r45 =>
(zpr g43 m44 0 20 a0 r45).bind fun m46 =>
(zgr g43 m46 0 1 a0).bind fun r47 =>
(zgr g43 m46 0 0 a0).bind fun r48 =>
(zrc g43 1 r47 (f_X1_be g43 m46 r47 r48)).bind fun m49 =>
some ((g43, m49)))))
theorem hy_X0_init : zHy yX0_init 0 := ⟨by decide, by decide, by decide +kernel⟩
set_option maxHeartbeats 4000000 in
theorem ok_X0_init (l : Launch) (g : zGd) (m : zMm) (a0 : Option Nat) (g0 : zGd) (m0 : zMm) (h : f_X0_init g m a0 = some (g0, m0)) : zCT l yX0_init cX0_init 1 none 4 104 g m [va_rf a0] none g0 m0 := by
  refine zCT.of (own := "QuiverKin") (mn := "<init>") (by decide +kernel) rfl rfl (zla_r zla_0) (zls_r zls_0) (by decide) (fun X hxl hxg hxf hxt hxr hxn => ?_)
  have Kret : ∀ (y0 : zGd) (y1 : zMm), (y0, y1) = (g0, m0) → zRe X y0 y1 none := by
    intro y0 y1 e; cases e; exact ⟨hxf, hxr, hxn⟩
  subst hxl
  show zG X cX0_init 1 "QuiverKin" "<init>" 4 104 0 [(0, va_rf a0)] [] g m
  unfold f_X0_init at h
  refine g_aload_n dX0_init_0 0 rfl ?_
  obtain ⟨hs, h⟩ := zob_e h
  refine g_oinit q163 q164 q165 hs zc_0 (by decide) (by decide) dX0_init_1 ?_
  refine g_aload_n dX0_init_4 0 rfl ?_
  refine gn_new znd_1 q166 dX0_init_5 h (fun g1 m2 h => ?_)
  refine g_letr h (fun r3 h => ?_)
  refine g_dup dX0_init_8 (zcat_r _) ?_
  obtain ⟨hs, h⟩ := zob_e h
  refine g_cIAn [] (fun g0 m0 e0 => ok_X1_init (xl X) g1 m2 r3 g0 m0 e0) (lw_meth q170) q124 q168 q169 rfl hy_X1_init rfl ⟨by decide, by decide⟩ rfl (zc_r (zc_r zc_0)) (by decide) hs dX0_init_9 h (fun g4 m5 h => ?_)
  refine gp_rF zpd_0_0 q239 (fun _ h9 => h9) rfl rfl dX0_init_12 h (fun m6 h => ?_)
  refine g_aload_n dX0_init_15 0 rfl ?_
  refine gn_new znd_1 q166 dX0_init_16 h (fun g7 m8 h => ?_)
  refine g_letr h (fun r9 h => ?_)
  refine g_dup dX0_init_19 (zcat_r _) ?_
  obtain ⟨hs, h⟩ := zob_e h
  refine g_cIAn [] (fun g0 m0 e0 => ok_X1_init (xl X) g7 m8 r9 g0 m0 e0) (lw_meth q170) q124 q168 q169 rfl hy_X1_init rfl ⟨by decide, by decide⟩ rfl (zc_r (zc_r zc_0)) (by decide) hs dX0_init_20 h (fun g10 m11 h => ?_)
  refine gp_rF zpd_0_1 q240 (fun _ h9 => h9) rfl rfl dX0_init_23 h (fun m12 h => ?_)
  refine g_aload_n dX0_init_26 0 rfl ?_
  refine g_sipush (v := (300 : Int32)) dX0_init_27 (by decide) ?_
  refine g_newa 1 rfl (by decide) rfl q303 dX0_init_30 h (fun g13 m14 h => ?_)
  refine g_letr h (fun r15 h => ?_)
  refine gp_rF zpd_0_2 q241 (fun _ h9 => h9) rfl rfl dX0_init_32 h (fun m16 h => ?_)
  refine g_aload_n dX0_init_35 0 rfl ?_
  refine g_iconst (v := (-1 : Int32)) dX0_init_36 (by decide) ?_
  refine gp_i zpd_0_4 q243 (fun _ h9 => h9) dX0_init_37 h (fun m17 h => ?_)
  refine g_aload_n dX0_init_40 0 rfl ?_
  refine g_iconst (v := (-1 : Int32)) dX0_init_41 (by decide) ?_
  refine gp_i zpd_0_5 q244 (fun _ h9 => h9) dX0_init_42 h (fun m18 h => ?_)
  refine g_aload_n dX0_init_45 0 rfl ?_
  refine g_bipush (v := (19 : Int32)) dX0_init_46 (by decide) ?_
  refine g_newa 0 rfl (by decide) rfl q225 dX0_init_48 h (fun g19 m20 h => ?_)
  refine g_letr h (fun r21 h => ?_)
  refine gp_rF zpd_0_6 q245 (fun _ h9 => h9) rfl rfl dX0_init_50 h (fun m22 h => ?_)
  refine g_aload_n dX0_init_53 0 rfl ?_
  refine g_bipush (v := (116 : Int32)) dX0_init_54 (by decide) ?_
  refine g_newa 0 rfl (by decide) rfl q225 dX0_init_56 h (fun g23 m24 h => ?_)
  refine g_letr h (fun r25 h => ?_)
  refine gp_rF zpd_0_7 q246 (fun _ h9 => h9) rfl rfl dX0_init_58 h (fun m26 h => ?_)
  refine g_aload_n dX0_init_61 0 rfl ?_
  refine g_bipush (v := (6 : Int32)) dX0_init_62 (by decide) ?_
  refine g_newa 0 rfl (by decide) rfl q225 dX0_init_64 h (fun g27 m28 h => ?_)
  refine g_letr h (fun r29 h => ?_)
  refine gp_rF zpd_0_8 q247 (fun _ h9 => h9) rfl rfl dX0_init_66 h (fun m30 h => ?_)
  refine g_aload_n dX0_init_69 0 rfl ?_
  refine g_bipush (v := (6 : Int32)) dX0_init_70 (by decide) ?_
  refine g_newa 0 rfl (by decide) rfl q225 dX0_init_72 h (fun g31 m32 h => ?_)
  refine g_letr h (fun r33 h => ?_)
  refine gp_rF zpd_0_9 q248 (fun _ h9 => h9) rfl rfl dX0_init_74 h (fun m34 h => ?_)
  refine g_aload_n dX0_init_77 0 rfl ?_
  refine g_bipush (v := (125 : Int32)) dX0_init_78 (by decide) ?_
  refine g_newa 0 rfl (by decide) rfl q225 dX0_init_80 h (fun g35 m36 h => ?_)
  refine g_letr h (fun r37 h => ?_)
  refine gp_rF zpd_0_17 q256 (fun _ h9 => h9) rfl rfl dX0_init_82 h (fun m38 h => ?_)
  refine g_aload_n dX0_init_85 0 rfl ?_
  refine g_bipush (v := (31 : Int32)) dX0_init_86 (by decide) ?_
  refine g_newa 0 rfl (by decide) rfl q225 dX0_init_88 h (fun g39 m40 h => ?_)
  refine g_letr h (fun r41 h => ?_)
  refine gp_rF zpd_0_19 q258 (fun _ h9 => h9) rfl rfl dX0_init_90 h (fun m42 h => ?_)
  refine g_aload_n dX0_init_93 0 rfl ?_
  refine g_sipush (v := (7776 : Int32)) dX0_init_94 (by decide) ?_
  refine g_newa 1 rfl (by decide) rfl q303 dX0_init_97 h (fun g43 m44 h => ?_)
  refine g_letr h (fun r45 h => ?_)
  refine gp_rF zpd_0_20 q259 (fun _ h9 => h9) rfl rfl dX0_init_99 h (fun m46 h => ?_)
  refine g_aload_n dX0_init_102 0 rfl ?_
  refine gf_r zfd_0_1 q240  (fun _ h9 => h9) dX0_init_103 h (fun r47 h => ?_)
  refine g_aload_n dX0_init_106 0 rfl ?_
  refine gf_r zfd_0_0 q239  (fun _ h9 => h9) dX0_init_107 h (fun r48 h => ?_)
  refine g_cVMn [va_rf r48] (fun m0 e0 => ok_X1_be (xl X) g43 m46 r47 r48 m0 e0) zc1 (by decide) (lw_V q226 q227 q228 q124 q229) rfl hy_X1_be rfl ⟨by decide, by decide⟩ rfl zc_0 (by decide) dX0_init_110 h (fun m49 h => ?_)
  refine g_vret dX0_init_113 hxt ?_
  have e := Option.some.inj h
  exact Kret _ _ e
/-! QuiverKin.in -/
def f_X0_in (a0 : Int32) (a1 : Int32) (a2 : Int32) : Option (Int32) :=
if a0 < a1 then (some ((0 : Int32)))
else (if a2 < a0 then (some ((0 : Int32)))
else (some ((1 : Int32))))
theorem hy_X0_in : zHy yX0_in 3 := ⟨by decide, by decide, by decide +kernel⟩
set_option maxHeartbeats 4000000 in
theorem ok_X0_in (l : Launch) (g : zGd) (m : zMm) (a0 : Int32) (a1 : Int32) (a2 : Int32) (z0 : Int32) (h : f_X0_in a0 a1 a2 = some z0) : zCT l yX0_in cX0_in 3 (some .boolean) 1 20 g m [.int a0, .int a1, .int a2] (some (.int z0)) g m := by
  refine zCT.of (own := "QuiverKin") (mn := "in") (by decide +kernel) rfl rfl (zla_i (zla_i (zla_i zla_0))) (zls_i (zls_i (zls_i zls_0))) (by decide) (fun X hxl hxg hxf hxt hxr hxn => ?_)
  have Kret : ∀ (y0 : Int32), y0 = z0 → zRe X g m (some (.int y0)) := by
    intro y0 e; cases e; exact ⟨hxf, hxr, hxn⟩
  subst hxl
  show zG X cX0_in 3 "QuiverKin" "in" 1 20 0 [(0, .int a0), (1, .int a1), (2, .int a2)] [] g m
  unfold f_X0_in at h
  refine g_iload_n dX0_in_0 0 rfl ?_
  refine g_iload_n dX0_in_1 1 rfl ?_
  refine g_icmp_lt 14 dX0_in_2 (by decide) (fun c => ?_) (fun c => ?_)
  · have h := zite_p h c
    refine g_iconst (v := (0 : Int32)) dX0_in_14 (by decide) ?_
    refine g_zret dX0_in_15 hxt rfl ?_
    have e := Option.some.inj h
    exact Kret _ e
  · have h := zite_n h c
    refine g_iload_n dX0_in_5 0 rfl ?_
    refine g_iload_n dX0_in_6 2 rfl ?_
    refine g_icmp_gt 14 dX0_in_7 (by decide) (fun c => ?_) (fun c => ?_)
    · have h := zite_p h c
      refine g_iconst (v := (0 : Int32)) dX0_in_14 (by decide) ?_
      refine g_zret dX0_in_15 hxt rfl ?_
      have e := Option.some.inj h
      exact Kret _ e
    · have h := zite_n h c
      refine g_iconst (v := (1 : Int32)) dX0_in_10 (by decide) ?_
      refine g_goto 15 dX0_in_11 (by decide) ?_
      refine g_zret dX0_in_15 hxt rfl ?_
      have e := Option.some.inj h
      exact Kret _ e
/-! QuiverKin.many -/
def f_X0_many (g : zGd) (m : zMm) (a0 : Option Nat) : Option (Int32) :=
(zgr g m 0 0 a0).bind fun r1 =>
(zgr g m 1 0 r1).bind fun r2 =>
(zald 101 g m r2 (0 : Int32)).bind fun v3 =>
some (v3)
theorem hy_X0_many : zHy yX0_many 0 := ⟨by decide, by decide, by decide +kernel⟩
set_option maxHeartbeats 4000000 in
theorem ok_X0_many (l : Launch) (g : zGd) (m : zMm) (a0 : Option Nat) (z0 : Int32) (h : f_X0_many g m a0 = some z0) : zCT l yX0_many cX0_many 1 (some .int) 1 20 g m [va_rf a0] (some (.int z0)) g m := by
  refine zCT.of (own := "QuiverKin") (mn := "many") (by decide +kernel) rfl rfl (zla_r zla_0) (zls_r zls_0) (by decide) (fun X hxl hxg hxf hxt hxr hxn => ?_)
  have Kret : ∀ (y0 : Int32), y0 = z0 → zRe X g m (some (.int y0)) := by
    intro y0 e; cases e; exact ⟨hxf, hxr, hxn⟩
  subst hxl
  show zG X cX0_many 1 "QuiverKin" "many" 1 20 0 [(0, va_rf a0)] [] g m
  unfold f_X0_many at h
  refine g_aload_n dX0_many_0 0 rfl ?_
  refine gf_r zfd_0_0 q239  (fun _ h9 => h9) dX0_many_1 h (fun r1 h => ?_)
  refine gf_rN zfd_1_0 q177  (fun _ h9 => h9) dX0_many_4 h (fun r2 h => ?_)
  refine g_iconst (v := (0 : Int32)) dX0_many_7 (by decide) ?_
  refine g_iald dX0_many_8 h (fun v3 h => ?_)
  refine g_iret dX0_many_9 hxt ?_
  have e := Option.some.inj h
  exact Kret _ e
/-! QuiverKin$State.tells -/
def b_X1_tells_9 (g : zGd) (a0 : Option Nat) (a1 : Int32) (a2 : Int32) : Int32 × zMm → Option ((zMm) ⊕ (Int32 × zMm)) := fun (v6, m7) =>
(zgr g m7 1 0 a0).bind fun r8 =>
(zald 101 g m7 r8 (3 : Int32)).bind fun v9 =>
if v9 ≤ v6 then (some (.inl m7))
else ((zgr g m7 1 10 a0).bind fun r10 =>
(zaldr 106 g m7 r10 v6).bind fun r11 =>
(zast 101 g m7 r11 a1 a2).bind fun m12 =>
zlt (v6 + (1 : Int32)) fun v13 =>
some (.inr (v13, m12)))
def f_X1_tells (g : zGd) (m : zMm) (a0 : Option Nat) (a1 : Int32) (a2 : Int32) : Option (zMm) :=
(zgr g m 1 1 a0).bind fun r1 =>
(zast 101 g m r1 a1 a2).bind fun m2 =>
(zLoop (b_X1_tells_9 g a0 a1 a2) zFuel ((0 : Int32), m2)).bind fun m4 =>
some (m4)
theorem hy_X1_tells : zHy yX1_tells 2 := ⟨by decide, by decide, by decide +kernel⟩
set_option maxHeartbeats 4000000 in
theorem ok_X1_tells (l : Launch) (g : zGd) (m : zMm) (a0 : Option Nat) (a1 : Int32) (a2 : Int32) (m0 : zMm) (h : f_X1_tells g m a0 a1 a2 = some m0) : zCT l yX1_tells cX1_tells 4 none 1 20 g m [va_rf a0, .int a1, .int a2] none g m0 := by
  refine zCT.of (own := "QuiverKin$State") (mn := "tells") (by decide +kernel) rfl rfl (zla_r (zla_i (zla_i zla_0))) (zls_r (zls_i (zls_i zls_0))) (by decide) (fun X hxl hxg hxf hxt hxr hxn => ?_)
  have Kret : ∀ (y0 : zMm), y0 = m0 → zRe X g y0 none := by
    intro y0 e; cases e; exact ⟨hxf, hxr, hxn⟩
  subst hxl
  show zG X cX1_tells 4 "QuiverKin$State" "tells" 1 20 0 [(0, va_rf a0), (1, .int a1), (2, .int a2)] [] g m
  unfold f_X1_tells at h
  refine g_aload_n dX1_tells_0 0 rfl ?_
  refine gf_r zfd_1_1 q178  (fun _ h9 => h9) dX1_tells_1 h (fun r1 h => ?_)
  refine g_iload_n dX1_tells_4 1 rfl ?_
  refine g_iload_n dX1_tells_5 2 rfl ?_
  refine g_iast dX1_tells_6 h (fun m2 h => ?_)
  refine g_iconst (v := (0 : Int32)) dX1_tells_7 (by decide) ?_
  refine g_istore_n [(3, .int (0 : Int32)), (0, va_rf a0), (1, .int a1), (2, .int a2)] dX1_tells_8 (by decide) (zf_r (zf_i (zf_i zf_0))) rfl ?_
  obtain ⟨o3, h1, h2⟩ := zB_e h
  have K3 : ∀ (m4 : zMm), o3 = m4 → zG X cX1_tells 4 "QuiverKin$State" "tells" 1 20 34 [] [] g m4 := by
    intro m4 e
    rw [e] at h2
    have h := h2
    refine g_vret dX1_tells_34 hxt ?_
    have e := Option.some.inj h
    exact Kret _ e
  refine zG.sub [1, 2, 3, 0] rfl ?_
  refine zLoop_ok (Φ := (fun (q : Int32 × zMm) => match q with | (v6, m7) => zG X cX1_tells 4 "QuiverKin$State" "tells" 1 20 9 [(0, va_rf a0), (1, .int a1), (2, .int a2), (3, .int v6)] [] g m7)) o3 ?_ zFuel _ h1
  rintro ⟨v6, m7⟩ x5 h hl5 hr5
  unfold b_X1_tells_9 at h
  have K5 : ∀ (v6 : Int32) (m7 : zMm), x5 = .inr (v6, m7) → zG X cX1_tells 4 "QuiverKin$State" "tells" 1 20 9 [(0, va_rf a0), (1, .int a1), (2, .int a2), (3, .int v6)] [] g m7 := by
    intro v6 m7 e
    exact hr5 _ e
  show zG X cX1_tells 4 "QuiverKin$State" "tells" 1 20 9 [(0, va_rf a0), (1, .int a1), (2, .int a2), (3, .int v6)] [] g m7
  refine g_iload_n dX1_tells_9 3 rfl ?_
  refine g_aload_n dX1_tells_10 0 rfl ?_
  refine gf_r zfd_1_0 q176  (fun _ h9 => h9) dX1_tells_11 h (fun r8 h => ?_)
  refine g_iconst (v := (3 : Int32)) dX1_tells_14 (by decide) ?_
  refine g_iald dX1_tells_15 h (fun v9 h => ?_)
  refine g_icmp_ge 34 dX1_tells_16 (by decide) (fun c => ?_) (fun c => ?_)
  · have h := zite_p h c
    refine zG.sub [] rfl ?_
    have e := Option.some.inj h
    have e := hl5 _ e.symm
    exact K3 _ e.symm
  · have h := zite_n h c
    refine g_aload_n dX1_tells_19 0 rfl ?_
    refine gf_r zfd_1_10 q196  (fun _ h9 => h9) dX1_tells_20 h (fun r10 h => ?_)
    refine g_iload_n dX1_tells_23 3 rfl ?_
    refine g_aald 5 rfl rfl (by decide)  dX1_tells_24 h (fun r11 h => ?_)
    refine g_iload_n dX1_tells_25 1 rfl ?_
    refine g_iload_n dX1_tells_26 2 rfl ?_
    refine g_iast dX1_tells_27 h (fun m12 h => ?_)
    refine g_iinc (v := (1 : Int32)) [(0, va_rf a0), (1, .int a1), (2, .int a2)] dX1_tells_28 3 rfl (by decide) (by decide) (zf_r (zf_i (zf_i (zf_i zf_0)))) rfl h (fun v13 h => ?_)
    refine g_goto 9 dX1_tells_31 (by decide) ?_
    refine zG.sub [1, 2, 3, 0] rfl ?_
    have e := Option.some.inj h
    exact K5 _ _ e.symm
/-! QuiverKin.kin -/
def f_X0_kin (g : zGd) (m : zMm) (a0 : Option Nat) (a1 : Int32) (a2 : Int32) : Option (Int32 × zMm) :=
(zrc g 0 a0 (f_X0_many g m a0)).bind fun v1 =>
(f_X0_in a1 (0 : Int32) (9 : Int32)).bind fun v2 =>
if v2 = 0 then (some (((-1 : Int32), m)))
else ((f_X0_in a2 (0 : Int32) (99 : Int32)).bind fun v3 =>
if v3 = 0 then (some (((-1 : Int32), m)))
else (if v1 = (6 : Int32) then (some (((-1 : Int32), m)))
else ((zgr g m 0 0 a0).bind fun r4 =>
(zgr g m 1 2 r4).bind fun r5 =>
(zast 101 g m r5 v1 a1).bind fun m6 =>
(zgr g m6 0 0 a0).bind fun r7 =>
(zgr g m6 1 0 r7).bind fun r8 =>
(zald 101 g m6 r8 (0 : Int32)).bind fun v9 =>
(zast 101 g m6 r8 (0 : Int32) (v9 + (1 : Int32))).bind fun m10 =>
(zgr g m10 0 0 a0).bind fun r11 =>
(zrc g 1 r11 (f_X1_tells g m10 r11 ((2 : Int32) + v1) v1)).bind fun m12 =>
(zgr g m12 0 0 a0).bind fun r13 =>
(zrc g 1 r13 (f_X1_tells g m12 r13 ((8 : Int32) + v1) a2)).bind fun m14 =>
some ((v1, m14)))))
theorem hy_X0_kin : zHy yX0_kin 2 := ⟨by decide, by decide, by decide +kernel⟩
set_option maxHeartbeats 4000000 in
theorem ok_X0_kin (l : Launch) (g : zGd) (m : zMm) (a0 : Option Nat) (a1 : Int32) (a2 : Int32) (z0 : Int32) (m0 : zMm) (h : f_X0_kin g m a0 a1 a2 = some (z0, m0)) : zCT l yX0_kin cX0_kin 4 (some .int) 2 43 g m [va_rf a0, .int a1, .int a2] (some (.int z0)) g m0 := by
  refine zCT.of (own := "QuiverKin") (mn := "kin") (by decide +kernel) rfl rfl (zla_r (zla_i (zla_i zla_0))) (zls_r (zls_i (zls_i zls_0))) (by decide) (fun X hxl hxg hxf hxt hxr hxn => ?_)
  have Kret : ∀ (y0 : Int32) (y1 : zMm), (y0, y1) = (z0, m0) → zRe X g y1 (some (.int y0)) := by
    intro y0 y1 e; cases e; exact ⟨hxf, hxr, hxn⟩
  subst hxl
  show zG X cX0_kin 4 "QuiverKin" "kin" 2 43 0 [(0, va_rf a0), (1, .int a1), (2, .int a2)] [] g m
  unfold f_X0_kin at h
  refine g_aload_n dX0_kin_0 0 rfl ?_
  refine g_cVRv (rv := fun x : Int32 => Value.int x) [] (fun x0 e0 => ok_X0_many (xl X) g m a0 x0 e0) zc0 (by decide) (lw_V q308 q310 qs0 q123 q311) rfl hy_X0_many rfl ⟨by decide, by decide⟩ rfl zc_0 (by decide) dX0_kin_1 h (fun v1 h => ?_)
  refine g_istore_n [(3, .int v1), (0, va_rf a0), (1, .int a1), (2, .int a2)] dX0_kin_4 (by decide) (zf_r (zf_i (zf_i zf_0))) rfl ?_
  refine g_iload_n dX0_kin_5 2 rfl ?_
  refine g_iconst (v := (0 : Int32)) dX0_kin_6 (by decide) ?_
  refine g_bipush (v := (9 : Int32)) dX0_kin_7 (by decide) ?_
  refine g_cSRv (rv := fun x : Int32 => Value.int x) [.int a1, .int (0 : Int32), .int (9 : Int32)] (fun x0 e0 => ok_X0_in (xl X) g m a1 (0 : Int32) (9 : Int32) x0 e0) (lw_S q312 q313 q123 q314) hy_X0_in rfl ⟨by decide, by decide⟩ rfl zc_0 (by decide) dX0_kin_9 h (fun v2 h => ?_)
  refine g_if_eq 31 dX0_kin_12 (by decide) (fun c => ?_) (fun c => ?_)
  · have h := zite_p h c
    refine g_iconst (v := (-1 : Int32)) dX0_kin_31 (by decide) ?_
    refine g_iret dX0_kin_32 hxt ?_
    have e := Option.some.inj h
    exact Kret _ _ e
  · have h := zite_n h c
    refine g_iload_n dX0_kin_15 3 rfl ?_
    refine g_iconst (v := (0 : Int32)) dX0_kin_16 (by decide) ?_
    refine g_bipush (v := (99 : Int32)) dX0_kin_17 (by decide) ?_
    refine g_cSRv (rv := fun x : Int32 => Value.int x) [.int a2, .int (0 : Int32), .int (99 : Int32)] (fun x0 e0 => ok_X0_in (xl X) g m a2 (0 : Int32) (99 : Int32) x0 e0) (lw_S q312 q313 q123 q314) hy_X0_in rfl ⟨by decide, by decide⟩ rfl zc_0 (by decide) dX0_kin_19 h (fun v3 h => ?_)
    refine g_if_eq 31 dX0_kin_22 (by decide) (fun c => ?_) (fun c => ?_)
    · have h := zite_p h c
      refine g_iconst (v := (-1 : Int32)) dX0_kin_31 (by decide) ?_
      refine g_iret dX0_kin_32 hxt ?_
      have e := Option.some.inj h
      exact Kret _ _ e
    · have h := zite_n h c
      refine g_iload_n dX0_kin_25 0 rfl ?_
      refine g_bipush (v := (6 : Int32)) dX0_kin_26 (by decide) ?_
      refine g_icmp_ne 33 dX0_kin_28 (by decide) (fun c => ?_) (fun c => ?_)
      · have h := zite_n h c
        refine g_aload_n dX0_kin_33 1 rfl ?_
        refine gf_r zfd_0_0 q239  (fun _ h9 => h9) dX0_kin_34 h (fun r4 h => ?_)
        refine gf_rN zfd_1_2 q181  (fun _ h9 => h9) dX0_kin_37 h (fun r5 h => ?_)
        refine g_iload_n dX0_kin_40 0 rfl ?_
        refine g_iload_n dX0_kin_41 2 rfl ?_
        refine g_iast dX0_kin_42 h (fun m6 h => ?_)
        refine g_aload_n dX0_kin_43 1 rfl ?_
        refine gf_r zfd_0_0 q239  (fun _ h9 => h9) dX0_kin_44 h (fun r7 h => ?_)
        refine gf_rN zfd_1_0 q177  (fun _ h9 => h9) dX0_kin_47 h (fun r8 h => ?_)
        refine g_iconst (v := (0 : Int32)) dX0_kin_50 (by decide) ?_
        refine g_dup2 dX0_kin_51 rfl (zcat_r _) ?_
        refine g_iald dX0_kin_52 h (fun v9 h => ?_)
        refine g_iconst (v := (1 : Int32)) dX0_kin_53 (by decide) ?_
        refine g_iadd dX0_kin_54 ?_
        refine g_iast dX0_kin_55 h (fun m10 h => ?_)
        refine g_aload_n dX0_kin_56 1 rfl ?_
        refine gf_r zfd_0_0 q239  (fun _ h9 => h9) dX0_kin_57 h (fun r11 h => ?_)
        refine g_iconst (v := (2 : Int32)) dX0_kin_60 (by decide) ?_
        refine g_iload_n dX0_kin_61 0 rfl ?_
        refine g_iadd dX0_kin_62 ?_
        refine g_iload_n dX0_kin_63 0 rfl ?_
        refine g_cVMn [.int ((2 : Int32) + v1), .int v1] (fun m0 e0 => ok_X1_tells (xl X) g m10 r11 ((2 : Int32) + v1) v1 m0 e0) zc1 (by decide) (lw_V q315 q316 q317 q124 q318) rfl hy_X1_tells rfl ⟨by decide, by decide⟩ rfl zc_0 (by decide) dX0_kin_64 h (fun m12 h => ?_)
        refine g_aload_n dX0_kin_67 1 rfl ?_
        refine gf_r zfd_0_0 q239  (fun _ h9 => h9) dX0_kin_68 h (fun r13 h => ?_)
        refine g_bipush (v := (8 : Int32)) dX0_kin_71 (by decide) ?_
        refine g_iload_n dX0_kin_73 0 rfl ?_
        refine g_iadd dX0_kin_74 ?_
        refine g_iload_n dX0_kin_75 3 rfl ?_
        refine g_cVMn [.int ((8 : Int32) + v1), .int a2] (fun m0 e0 => ok_X1_tells (xl X) g m12 r13 ((8 : Int32) + v1) a2 m0 e0) zc1 (by decide) (lw_V q315 q316 q317 q124 q318) rfl hy_X1_tells rfl ⟨by decide, by decide⟩ rfl zc_0 (by decide) dX0_kin_76 h (fun m14 h => ?_)
        refine g_iload_n dX0_kin_79 0 rfl ?_
        refine g_iret dX0_kin_80 hxt ?_
        have e := Option.some.inj h
        exact Kret _ _ e
      · have h := zite_p h c
        refine g_iconst (v := (-1 : Int32)) dX0_kin_31 (by decide) ?_
        refine g_iret dX0_kin_32 hxt ?_
        have e := Option.some.inj h
        exact Kret _ _ e
/-! QuiverKin.put -/
def b_X0_put_3 (g : zGd) (a0 : Option Nat) (a1 : Int32) : Int32 × zMm → Option ((zMm) ⊕ (Int32 × zMm)) := fun (v4, m5) =>
if v4 < 0 then (some (.inl m5))
else ((zgr g m5 0 2 a0).bind fun r6 =>
(zgi g m5 0 3 a0).bind fun v7 =>
(zast 102 g m5 r6 v7 (vp_nar .byte (zi2b (zshr a1 v4)))).bind fun m8 =>
(zgi g m8 0 3 a0).bind fun v9 =>
(zpi g m8 0 3 a0 (v9 + (1 : Int32))).bind fun m10 =>
zlt (v4 + (-8 : Int32)) fun v11 =>
some (.inr (v11, m10)))
def f_X0_put (g : zGd) (m : zMm) (a0 : Option Nat) (a1 : Int32) : Option (zMm) :=
(zLoop (b_X0_put_3 g a0 a1) zFuel ((24 : Int32), m)).bind fun m2 =>
some (m2)
theorem hy_X0_put : zHy yX0_put 1 := ⟨by decide, by decide, by decide +kernel⟩
set_option maxHeartbeats 4000000 in
theorem ok_X0_put (l : Launch) (g : zGd) (m : zMm) (a0 : Option Nat) (a1 : Int32) (m0 : zMm) (h : f_X0_put g m a0 a1 = some m0) : zCT l yX0_put cX0_put 3 none 1 20 g m [va_rf a0, .int a1] none g m0 := by
  refine zCT.of (own := "QuiverKin") (mn := "put") (by decide +kernel) rfl rfl (zla_r (zla_i zla_0)) (zls_r (zls_i zls_0)) (by decide) (fun X hxl hxg hxf hxt hxr hxn => ?_)
  have Kret : ∀ (y0 : zMm), y0 = m0 → zRe X g y0 none := by
    intro y0 e; cases e; exact ⟨hxf, hxr, hxn⟩
  subst hxl
  show zG X cX0_put 3 "QuiverKin" "put" 1 20 0 [(0, va_rf a0), (1, .int a1)] [] g m
  unfold f_X0_put at h
  refine g_bipush (v := (24 : Int32)) dX0_put_0 (by decide) ?_
  refine g_istore_n [(2, .int (24 : Int32)), (0, va_rf a0), (1, .int a1)] dX0_put_2 (by decide) (zf_r (zf_i zf_0)) rfl ?_
  obtain ⟨o1, h1, h2⟩ := zB_e h
  have K1 : ∀ (m2 : zMm), o1 = m2 → zG X cX0_put 3 "QuiverKin" "put" 1 20 36 [] [] g m2 := by
    intro m2 e
    rw [e] at h2
    have h := h2
    refine g_vret dX0_put_36 hxt ?_
    have e := Option.some.inj h
    exact Kret _ e
  refine zG.sub [1, 2, 0] rfl ?_
  refine zLoop_ok (Φ := (fun (q : Int32 × zMm) => match q with | (v4, m5) => zG X cX0_put 3 "QuiverKin" "put" 1 20 3 [(0, va_rf a0), (1, .int a1), (2, .int v4)] [] g m5)) o1 ?_ zFuel _ h1
  rintro ⟨v4, m5⟩ x3 h hl3 hr3
  unfold b_X0_put_3 at h
  have K3 : ∀ (v4 : Int32) (m5 : zMm), x3 = .inr (v4, m5) → zG X cX0_put 3 "QuiverKin" "put" 1 20 3 [(0, va_rf a0), (1, .int a1), (2, .int v4)] [] g m5 := by
    intro v4 m5 e
    exact hr3 _ e
  show zG X cX0_put 3 "QuiverKin" "put" 1 20 3 [(0, va_rf a0), (1, .int a1), (2, .int v4)] [] g m5
  refine g_iload_n dX0_put_3 2 rfl ?_
  refine g_if_lt 36 dX0_put_4 (by decide) (fun c => ?_) (fun c => ?_)
  · have h := zite_p h c
    refine zG.sub [] rfl ?_
    have e := Option.some.inj h
    have e := hl3 _ e.symm
    exact K1 _ e.symm
  · have h := zite_n h c
    refine g_aload_n dX0_put_7 0 rfl ?_
    refine gf_r zfd_0_2 q241  (fun _ h9 => h9) dX0_put_8 h (fun r6 h => ?_)
    refine g_aload_n dX0_put_11 0 rfl ?_
    refine gf_i zfd_0_3 q242  (fun _ h9 => h9) dX0_put_12 h (fun v7 h => ?_)
    refine g_iload_n dX0_put_15 1 rfl ?_
    refine g_iload_n dX0_put_16 2 rfl ?_
    refine g_ishr dX0_put_17 ?_
    refine g_i2b dX0_put_18 ?_
    refine g_bast dX0_put_19 h (fun m8 h => ?_)
    refine g_aload_n dX0_put_20 0 rfl ?_
    refine g_dup dX0_put_21 (zcat_r _) ?_
    refine gf_i zfd_0_3 q242  (fun _ h9 => h9) dX0_put_22 h (fun v9 h => ?_)
    refine g_iconst (v := (1 : Int32)) dX0_put_25 (by decide) ?_
    refine g_iadd dX0_put_26 ?_
    refine gp_i zpd_0_3 q242 (fun _ h9 => h9) dX0_put_27 h (fun m10 h => ?_)
    refine g_iinc (v := (-8 : Int32)) [(0, va_rf a0), (1, .int a1)] dX0_put_30 2 rfl (by decide) (by decide) (zf_r (zf_i (zf_i zf_0))) rfl h (fun v11 h => ?_)
    refine g_goto 3 dX0_put_33 (by decide) ?_
    refine zG.sub [1, 2, 0] rfl ?_
    have e := Option.some.inj h
    exact K3 _ _ e.symm
/-! QuiverKin.feed -/
def f_X0_feed (g : zGd) (m : zMm) (a0 : Option Nat) (a1 : Int32) (a2 : Int32) (a3 : Int32) (a4 : Int32) (a5 : Int32) : Option (Int32 × zMm) :=
(zgi g m 0 3 a0).bind fun v1 =>
if (v1 + (20 : Int32)) ≤ (300 : Int32) then ((zrc g 0 a0 (f_X0_put g m a0 a1)).bind fun m2 =>
(zrc g 0 a0 (f_X0_put g m2 a0 a2)).bind fun m3 =>
(zrc g 0 a0 (f_X0_put g m3 a0 a3)).bind fun m4 =>
(zrc g 0 a0 (f_X0_put g m4 a0 a4)).bind fun m5 =>
(zrc g 0 a0 (f_X0_put g m5 a0 a5)).bind fun m6 =>
(zgi g m6 0 3 a0).bind fun v7 =>
some ((v7, m6)))
else (some (((-1 : Int32), m)))
theorem hy_X0_feed : zHy yX0_feed 5 := ⟨by decide, by decide, by decide +kernel⟩
set_option maxHeartbeats 4000000 in
theorem ok_X0_feed (l : Launch) (g : zGd) (m : zMm) (a0 : Option Nat) (a1 : Int32) (a2 : Int32) (a3 : Int32) (a4 : Int32) (a5 : Int32) (z0 : Int32) (m0 : zMm) (h : f_X0_feed g m a0 a1 a2 a3 a4 a5 = some (z0, m0)) : zCT l yX0_feed cX0_feed 6 (some .int) 2 42 g m [va_rf a0, .int a1, .int a2, .int a3, .int a4, .int a5] (some (.int z0)) g m0 := by
  refine zCT.of (own := "QuiverKin") (mn := "feed") (by decide +kernel) rfl rfl (zla_r (zla_i (zla_i (zla_i (zla_i (zla_i zla_0)))))) (zls_r (zls_i (zls_i (zls_i (zls_i (zls_i zls_0)))))) (by decide) (fun X hxl hxg hxf hxt hxr hxn => ?_)
  have Kret : ∀ (y0 : Int32) (y1 : zMm), (y0, y1) = (z0, m0) → zRe X g y1 (some (.int y0)) := by
    intro y0 y1 e; cases e; exact ⟨hxf, hxr, hxn⟩
  subst hxl
  show zG X cX0_feed 6 "QuiverKin" "feed" 2 42 0 [(0, va_rf a0), (1, .int a1), (2, .int a2), (3, .int a3), (4, .int a4), (5, .int a5)] [] g m
  unfold f_X0_feed at h
  refine g_aload_n dX0_feed_0 0 rfl ?_
  refine gf_i zfd_0_3 q242  (fun _ h9 => h9) dX0_feed_1 h (fun v1 h => ?_)
  refine g_bipush (v := (20 : Int32)) dX0_feed_4 (by decide) ?_
  refine g_iadd dX0_feed_6 ?_
  refine g_sipush (v := (300 : Int32)) dX0_feed_7 (by decide) ?_
  refine g_icmp_le 15 dX0_feed_10 (by decide) (fun c => ?_) (fun c => ?_)
  · have h := zite_p h c
    refine g_aload_n dX0_feed_15 0 rfl ?_
    refine g_iload_n dX0_feed_16 1 rfl ?_
    refine g_cVMn [.int a1] (fun m0 e0 => ok_X0_put (xl X) g m a0 a1 m0 e0) zc0 (by decide) (lw_V q323 q325 qs1 q123 q326) rfl hy_X0_put rfl ⟨by decide, by decide⟩ rfl zc_0 (by decide) dX0_feed_17 h (fun m2 h => ?_)
    refine g_aload_n dX0_feed_20 0 rfl ?_
    refine g_iload_n dX0_feed_21 2 rfl ?_
    refine g_cVMn [.int a2] (fun m0 e0 => ok_X0_put (xl X) g m2 a0 a2 m0 e0) zc0 (by decide) (lw_V q323 q325 qs1 q123 q326) rfl hy_X0_put rfl ⟨by decide, by decide⟩ rfl zc_0 (by decide) dX0_feed_22 h (fun m3 h => ?_)
    refine g_aload_n dX0_feed_25 0 rfl ?_
    refine g_iload_n dX0_feed_26 3 rfl ?_
    refine g_cVMn [.int a3] (fun m0 e0 => ok_X0_put (xl X) g m3 a0 a3 m0 e0) zc0 (by decide) (lw_V q323 q325 qs1 q123 q326) rfl hy_X0_put rfl ⟨by decide, by decide⟩ rfl zc_0 (by decide) dX0_feed_27 h (fun m4 h => ?_)
    refine g_aload_n dX0_feed_30 0 rfl ?_
    refine g_iload dX0_feed_31 4 rfl ?_
    refine g_cVMn [.int a4] (fun m0 e0 => ok_X0_put (xl X) g m4 a0 a4 m0 e0) zc0 (by decide) (lw_V q323 q325 qs1 q123 q326) rfl hy_X0_put rfl ⟨by decide, by decide⟩ rfl zc_0 (by decide) dX0_feed_33 h (fun m5 h => ?_)
    refine g_aload_n dX0_feed_36 0 rfl ?_
    refine g_iload dX0_feed_37 5 rfl ?_
    refine g_cVMn [.int a5] (fun m0 e0 => ok_X0_put (xl X) g m5 a0 a5 m0 e0) zc0 (by decide) (lw_V q323 q325 qs1 q123 q326) rfl hy_X0_put rfl ⟨by decide, by decide⟩ rfl zc_0 (by decide) dX0_feed_39 h (fun m6 h => ?_)
    refine g_aload_n dX0_feed_42 0 rfl ?_
    refine gf_i zfd_0_3 q242  (fun _ h9 => h9) dX0_feed_43 h (fun v7 h => ?_)
    refine g_iret dX0_feed_46 hxt ?_
    have e := Option.some.inj h
    exact Kret _ _ e
  · have h := zite_n h c
    refine g_iconst (v := (-1 : Int32)) dX0_feed_13 (by decide) ?_
    refine g_iret dX0_feed_14 hxt ?_
    have e := Option.some.inj h
    exact Kret _ _ e
/-! QuiverKin.end -/
def f_X0_end (g : zGd) (m : zMm) (a0 : Option Nat) (a1 : Int32) : Option (Int32 × zMm) :=
(zgi g m 0 3 a0).bind fun v1 =>
(f_X0_in a1 (0 : Int32) v1).bind fun v2 =>
if v2 = 0 then (some (((-1 : Int32), m)))
else ((zpi g m 0 3 a0 a1).bind fun m3 =>
some ((a1, m3)))
theorem hy_X0_end : zHy yX0_end 1 := ⟨by decide, by decide, by decide +kernel⟩
set_option maxHeartbeats 4000000 in
theorem ok_X0_end (l : Launch) (g : zGd) (m : zMm) (a0 : Option Nat) (a1 : Int32) (z0 : Int32) (m0 : zMm) (h : f_X0_end g m a0 a1 = some (z0, m0)) : zCT l yX0_end cX0_end 2 (some .int) 2 42 g m [va_rf a0, .int a1] (some (.int z0)) g m0 := by
  refine zCT.of (own := "QuiverKin") (mn := "end") (by decide +kernel) rfl rfl (zla_r (zla_i zla_0)) (zls_r (zls_i zls_0)) (by decide) (fun X hxl hxg hxf hxt hxr hxn => ?_)
  have Kret : ∀ (y0 : Int32) (y1 : zMm), (y0, y1) = (z0, m0) → zRe X g y1 (some (.int y0)) := by
    intro y0 y1 e; cases e; exact ⟨hxf, hxr, hxn⟩
  subst hxl
  show zG X cX0_end 2 "QuiverKin" "end" 2 42 0 [(0, va_rf a0), (1, .int a1)] [] g m
  unfold f_X0_end at h
  refine g_iload_n dX0_end_0 1 rfl ?_
  refine g_iconst (v := (0 : Int32)) dX0_end_1 (by decide) ?_
  refine g_aload_n dX0_end_2 0 rfl ?_
  refine gf_i zfd_0_3 q242  (fun _ h9 => h9) dX0_end_3 h (fun v1 h => ?_)
  refine g_cSRv (rv := fun x : Int32 => Value.int x) [.int a1, .int (0 : Int32), .int v1] (fun x0 e0 => ok_X0_in (xl X) g m a1 (0 : Int32) v1 x0 e0) (lw_S q312 q313 q123 q314) hy_X0_in rfl ⟨by decide, by decide⟩ rfl zc_0 (by decide) dX0_end_6 h (fun v2 h => ?_)
  refine g_if_ne 14 dX0_end_9 (by decide) (fun c => ?_) (fun c => ?_)
  · have h := zite_n h c
    refine g_aload_n dX0_end_14 0 rfl ?_
    refine g_iload_n dX0_end_15 1 rfl ?_
    refine gp_i zpd_0_3 q242 (fun _ h9 => h9) dX0_end_16 h (fun m3 h => ?_)
    refine g_iload_n dX0_end_19 1 rfl ?_
    refine g_iret dX0_end_20 hxt ?_
    have e := Option.some.inj h
    exact Kret _ _ e
  · have h := zite_p h c
    refine g_iconst (v := (-1 : Int32)) dX0_end_12 (by decide) ?_
    refine g_iret dX0_end_13 hxt ?_
    have e := Option.some.inj h
    exact Kret _ _ e
/-! QuiverKin$Tokens.<init> -/
def f_X3_init (g : zGd) (m : zMm) (a0 : Option Nat) (a1 : Option Nat) (a2 : Int32) : Option (zMm) :=
zob a0 ((zpr g m 3 0 a0 a1).bind fun m1 =>
(zpi g m1 3 1 a0 a2).bind fun m2 =>
some (m2))
theorem hy_X3_init : zHy yX3_init 2 := ⟨by decide, by decide, by decide +kernel⟩
set_option maxHeartbeats 4000000 in
theorem ok_X3_init (l : Launch) (g : zGd) (m : zMm) (a0 : Option Nat) (a1 : Option Nat) (a2 : Int32) (m0 : zMm) (h : f_X3_init g m a0 a1 a2 = some m0) : zCT l yX3_init cX3_init 3 none 1 20 g m [va_rf a0, va_rf a1, .int a2] none g m0 := by
  refine zCT.of (own := "QuiverKin$Tokens") (mn := "<init>") (by decide +kernel) rfl rfl (zla_r (zla_r (zla_i zla_0))) (zls_r (zls_r (zls_i zls_0))) (by decide) (fun X hxl hxg hxf hxt hxr hxn => ?_)
  have Kret : ∀ (y0 : zMm), y0 = m0 → zRe X g y0 none := by
    intro y0 e; cases e; exact ⟨hxf, hxr, hxn⟩
  subst hxl
  show zG X cX3_init 3 "QuiverKin$Tokens" "<init>" 1 20 0 [(0, va_rf a0), (1, va_rf a1), (2, .int a2)] [] g m
  unfold f_X3_init at h
  refine g_aload_n dX3_init_0 0 rfl ?_
  obtain ⟨hs, h⟩ := zob_e h
  refine g_oinit q341 q164 q165 hs zc_0 (by decide) (by decide) dX3_init_1 ?_
  refine g_aload_n dX3_init_4 0 rfl ?_
  refine g_aload_n dX3_init_5 1 rfl ?_
  refine gp_rF zpd_3_0 q342 (fun _ h9 => h9) rfl rfl dX3_init_6 h (fun m1 h => ?_)
  refine g_aload_n dX3_init_9 0 rfl ?_
  refine g_iload_n dX3_init_10 2 rfl ?_
  refine gp_iF zpd_3_1 q343 (fun _ h9 => h9) rfl rfl dX3_init_11 h (fun m2 h => ?_)
  refine g_vret dX3_init_14 hxt ?_
  have e := Option.some.inj h
  exact Kret _ e
/-! QuiverKin$Text.<init> -/
def f_X4_init (g : zGd) (m : zMm) (a0 : Option Nat) : Option (zGd × zMm) :=
zob a0 ((znewa 107 g m (2 : Int32)).bind fun (g1, m2) =>
zlt (some (zZ g)) fun r3 =>
(zpr g1 m2 4 0 a0 r3).bind fun m4 =>
zlt (znewo g1 m4 17) fun (g5, m6) =>
zlt (some (zZ g1)) fun r7 =>
zob r7 ((f_J2_init g5 m6 r7).bind fun m8 =>
(zpr g5 m8 4 2 a0 r7).bind fun m9 =>
some ((g5, m9))))
theorem hy_X4_init : zHy yX4_init 0 := ⟨by decide, by decide, by decide +kernel⟩
set_option maxHeartbeats 4000000 in
theorem ok_X4_init (l : Launch) (g : zGd) (m : zMm) (a0 : Option Nat) (g0 : zGd) (m0 : zMm) (h : f_X4_init g m a0 = some (g0, m0)) : zCT l yX4_init cX4_init 1 none 4 80 g m [va_rf a0] none g0 m0 := by
  refine zCT.of (own := "QuiverKin$Text") (mn := "<init>") (by decide +kernel) rfl rfl (zla_r zla_0) (zls_r zls_0) (by decide) (fun X hxl hxg hxf hxt hxr hxn => ?_)
  have Kret : ∀ (y0 : zGd) (y1 : zMm), (y0, y1) = (g0, m0) → zRe X y0 y1 none := by
    intro y0 y1 e; cases e; exact ⟨hxf, hxr, hxn⟩
  subst hxl
  show zG X cX4_init 1 "QuiverKin$Text" "<init>" 4 80 0 [(0, va_rf a0)] [] g m
  unfold f_X4_init at h
  refine g_aload_n dX4_init_0 0 rfl ?_
  obtain ⟨hs, h⟩ := zob_e h
  refine g_oinit q376 q164 q165 hs zc_0 (by decide) (by decide) dX4_init_1 ?_
  refine g_aload_n dX4_init_4 0 rfl ?_
  refine g_iconst (v := (2 : Int32)) dX4_init_5 (by decide) ?_
  refine g_anew 6 rfl (by decide) q377 q378 dX4_init_6 h (fun g1 m2 h => ?_)
  refine g_letr h (fun r3 h => ?_)
  refine gp_rF zpd_4_0 q405 (fun _ h9 => h9) rfl rfl dX4_init_9 h (fun m4 h => ?_)
  refine g_aload_n dX4_init_12 0 rfl ?_
  refine gn_new znd_17 q379 dX4_init_13 h (fun g5 m6 h => ?_)
  refine g_letr h (fun r7 h => ?_)
  refine g_dup dX4_init_16 (zcat_r _) ?_
  obtain ⟨hs, h⟩ := zob_e h
  refine g_cIMn [] (fun m0 e0 => ok_J2_init (xl X) g5 m6 r7 m0 e0) (lw_meth q383) q131 q381 q382 rfl hy_J2_init rfl ⟨by decide, by decide⟩ rfl (zc_r (zc_r zc_0)) (by decide) hs dX4_init_17 h (fun m8 h => ?_)
  refine gp_rF zpd_4_2 q409 (fun _ h9 => h9) rfl rfl dX4_init_20 h (fun m9 h => ?_)
  refine g_vret dX4_init_23 hxt ?_
  have e := Option.some.inj h
  exact Kret _ _ e
/-! QuiverKin$Doing.<init> -/
def f_X16_init (g : zGd) (m : zMm) (a0 : Option Nat) (a1 : Int32) (a2 : Int32) (a3 : Int32) (a4 : Int32) : Option (zMm) :=
zob a0 ((f_J10_init g m a0).bind fun _ =>
(zpi g m 16 0 a0 a1).bind fun m1 =>
(zpi g m1 16 1 a0 a2).bind fun m2 =>
(zpi g m2 16 2 a0 a3).bind fun m3 =>
(zpi g m3 16 3 a0 a4).bind fun m4 =>
some (m4))
theorem hy_X16_init : zHy yX16_init 4 := ⟨by decide, by decide, by decide +kernel⟩
set_option maxHeartbeats 4000000 in
theorem ok_X16_init (l : Launch) (g : zGd) (m : zMm) (a0 : Option Nat) (a1 : Int32) (a2 : Int32) (a3 : Int32) (a4 : Int32) (m0 : zMm) (h : f_X16_init g m a0 a1 a2 a3 a4 = some m0) : zCT l yX16_init cX16_init 5 none 2 40 g m [va_rf a0, .int a1, .int a2, .int a3, .int a4] none g m0 := by
  refine zCT.of (own := "QuiverKin$Doing") (mn := "<init>") (by decide +kernel) rfl rfl (zla_r (zla_i (zla_i (zla_i (zla_i zla_0))))) (zls_r (zls_i (zls_i (zls_i (zls_i zls_0))))) (by decide) (fun X hxl hxg hxf hxt hxr hxn => ?_)
  have Kret : ∀ (y0 : zMm), y0 = m0 → zRe X g y0 none := by
    intro y0 e; cases e; exact ⟨hxf, hxr, hxn⟩
  subst hxl
  show zG X cX16_init 5 "QuiverKin$Doing" "<init>" 2 40 0 [(0, va_rf a0), (1, .int a1), (2, .int a2), (3, .int a3), (4, .int a4)] [] g m
  unfold f_X16_init at h
  refine g_aload_n dX16_init_0 0 rfl ?_
  obtain ⟨hs, h⟩ := zob_e h
  refine g_cIRn [] (fun x0 e0 => ok_J10_init (xl X) g m a0 x0 e0) (lw_meth q581) q141 q859 q580 rfl hy_J10_init rfl ⟨by decide, by decide⟩ rfl zc_0 (by decide) hs dX16_init_1 h (fun _ h => ?_)
  refine g_aload_n dX16_init_4 0 rfl ?_
  refine g_iload_n dX16_init_5 1 rfl ?_
  refine gp_iF zpd_16_0 q860 (fun _ h9 => h9) rfl rfl dX16_init_6 h (fun m1 h => ?_)
  refine g_aload_n dX16_init_9 0 rfl ?_
  refine g_iload_n dX16_init_10 2 rfl ?_
  refine gp_iF zpd_16_1 q861 (fun _ h9 => h9) rfl rfl dX16_init_11 h (fun m2 h => ?_)
  refine g_aload_n dX16_init_14 0 rfl ?_
  refine g_iload_n dX16_init_15 3 rfl ?_
  refine gp_iF zpd_16_2 q862 (fun _ h9 => h9) rfl rfl dX16_init_16 h (fun m3 h => ?_)
  refine g_aload_n dX16_init_19 0 rfl ?_
  refine g_iload dX16_init_20 4 rfl ?_
  refine gp_iF zpd_16_3 q863 (fun _ h9 => h9) rfl rfl dX16_init_22 h (fun m4 h => ?_)
  refine g_vret dX16_init_25 hxt ?_
  have e := Option.some.inj h
  exact Kret _ e
/-! QuiverKin$Tokens.isDigit -/
def f_X3_isDigit (a0 : Int32) : Option (Int32) :=
if a0 < (48 : Int32) then (some ((0 : Int32)))
else (if (57 : Int32) < a0 then (some ((0 : Int32)))
else (some ((1 : Int32))))
theorem hy_X3_isDigit : zHy yX3_isDigit 1 := ⟨by decide, by decide, by decide +kernel⟩
set_option maxHeartbeats 4000000 in
theorem ok_X3_isDigit (l : Launch) (g : zGd) (m : zMm) (a0 : Int32) (z0 : Int32) (h : f_X3_isDigit a0 = some z0) : zCT l yX3_isDigit cX3_isDigit 1 (some .boolean) 1 20 g m [.int a0] (some (.int z0)) g m := by
  refine zCT.of (own := "QuiverKin$Tokens") (mn := "isDigit") (by decide +kernel) rfl rfl (zla_i zla_0) (zls_i zls_0) (by decide) (fun X hxl hxg hxf hxt hxr hxn => ?_)
  have Kret : ∀ (y0 : Int32), y0 = z0 → zRe X g m (some (.int y0)) := by
    intro y0 e; cases e; exact ⟨hxf, hxr, hxn⟩
  subst hxl
  show zG X cX3_isDigit 1 "QuiverKin$Tokens" "isDigit" 1 20 0 [(0, .int a0)] [] g m
  unfold f_X3_isDigit at h
  refine g_iload_n dX3_isDigit_0 0 rfl ?_
  refine g_bipush (v := (48 : Int32)) dX3_isDigit_1 (by decide) ?_
  refine g_icmp_lt 16 dX3_isDigit_3 (by decide) (fun c => ?_) (fun c => ?_)
  · have h := zite_p h c
    refine g_iconst (v := (0 : Int32)) dX3_isDigit_16 (by decide) ?_
    refine g_zret dX3_isDigit_17 hxt rfl ?_
    have e := Option.some.inj h
    exact Kret _ e
  · have h := zite_n h c
    refine g_iload_n dX3_isDigit_6 0 rfl ?_
    refine g_bipush (v := (57 : Int32)) dX3_isDigit_7 (by decide) ?_
    refine g_icmp_gt 16 dX3_isDigit_9 (by decide) (fun c => ?_) (fun c => ?_)
    · have h := zite_p h c
      refine g_iconst (v := (0 : Int32)) dX3_isDigit_16 (by decide) ?_
      refine g_zret dX3_isDigit_17 hxt rfl ?_
      have e := Option.some.inj h
      exact Kret _ e
    · have h := zite_n h c
      refine g_iconst (v := (1 : Int32)) dX3_isDigit_12 (by decide) ?_
      refine g_goto 17 dX3_isDigit_13 (by decide) ?_
      refine g_zret dX3_isDigit_17 hxt rfl ?_
      have e := Option.some.inj h
      exact Kret _ e
/-! QuiverKin$Tokens.isLetter -/
def f_X3_isLetter (a0 : Int32) : Option (Int32) :=
zEx (σ := Unit) (if a0 < (97 : Int32) then (some (.inr ()))
else (if a0 ≤ (122 : Int32) then (some (.inl ((1 : Int32))))
else (some (.inr ())))) fun _ =>
if a0 < (65 : Int32) then (some ((0 : Int32)))
else (if (90 : Int32) < a0 then (some ((0 : Int32)))
else (some ((1 : Int32))))
theorem hy_X3_isLetter : zHy yX3_isLetter 1 := ⟨by decide, by decide, by decide +kernel⟩
set_option maxHeartbeats 4000000 in
theorem ok_X3_isLetter (l : Launch) (g : zGd) (m : zMm) (a0 : Int32) (z0 : Int32) (h : f_X3_isLetter a0 = some z0) : zCT l yX3_isLetter cX3_isLetter 1 (some .boolean) 1 20 g m [.int a0] (some (.int z0)) g m := by
  refine zCT.of (own := "QuiverKin$Tokens") (mn := "isLetter") (by decide +kernel) rfl rfl (zla_i zla_0) (zls_i zls_0) (by decide) (fun X hxl hxg hxf hxt hxr hxn => ?_)
  have Kret : ∀ (y0 : Int32), y0 = z0 → zRe X g m (some (.int y0)) := by
    intro y0 e; cases e; exact ⟨hxf, hxr, hxn⟩
  subst hxl
  show zG X cX3_isLetter 1 "QuiverKin$Tokens" "isLetter" 1 20 0 [(0, .int a0)] [] g m
  unfold f_X3_isLetter at h
  refine g_iload_n dX3_isLetter_0 0 rfl ?_
  refine g_bipush (v := (97 : Int32)) dX3_isLetter_1 (by decide) ?_
  obtain ⟨o1, h1, hl1, hr1⟩ := zEx_e h
  have K1 : o1 = .inr () → zG X cX3_isLetter 1 "QuiverKin$Tokens" "isLetter" 1 20 12 [(0, .int a0)] [] g m := by
    intro e
    have h := hr1 _ e
    refine g_iload_n dX3_isLetter_12 0 rfl ?_
    refine g_bipush (v := (65 : Int32)) dX3_isLetter_13 (by decide) ?_
    refine g_icmp_lt 28 dX3_isLetter_15 (by decide) (fun c => ?_) (fun c => ?_)
    · have h := zite_p h c
      refine g_iconst (v := (0 : Int32)) dX3_isLetter_28 (by decide) ?_
      refine g_zret dX3_isLetter_29 hxt rfl ?_
      have e := Option.some.inj h
      exact Kret _ e
    · have h := zite_n h c
      refine g_iload_n dX3_isLetter_18 0 rfl ?_
      refine g_bipush (v := (90 : Int32)) dX3_isLetter_19 (by decide) ?_
      refine g_icmp_gt 28 dX3_isLetter_21 (by decide) (fun c => ?_) (fun c => ?_)
      · have h := zite_p h c
        refine g_iconst (v := (0 : Int32)) dX3_isLetter_28 (by decide) ?_
        refine g_zret dX3_isLetter_29 hxt rfl ?_
        have e := Option.some.inj h
        exact Kret _ e
      · have h := zite_n h c
        refine g_iconst (v := (1 : Int32)) dX3_isLetter_24 (by decide) ?_
        refine g_goto 29 dX3_isLetter_25 (by decide) ?_
        refine g_zret dX3_isLetter_29 hxt rfl ?_
        have e := Option.some.inj h
        exact Kret _ e
  have h := h1
  refine g_icmp_lt 12 dX3_isLetter_3 (by decide) (fun c => ?_) (fun c => ?_)
  · have h := zite_p h c
    refine zG.sub [0] rfl ?_
    have e := Option.some.inj h
    exact K1 e.symm
  · have h := zite_n h c
    refine g_iload_n dX3_isLetter_6 0 rfl ?_
    refine g_bipush (v := (122 : Int32)) dX3_isLetter_7 (by decide) ?_
    refine g_icmp_le 24 dX3_isLetter_9 (by decide) (fun c => ?_) (fun c => ?_)
    · have h := zite_p h c
      refine g_iconst (v := (1 : Int32)) dX3_isLetter_24 (by decide) ?_
      refine g_goto 29 dX3_isLetter_25 (by decide) ?_
      refine g_zret dX3_isLetter_29 hxt rfl ?_
      have e := Option.some.inj h
      have e := hl1 _ e.symm
      exact Kret _ e
    · have h := zite_n h c
      refine zG.sub [0] rfl ?_
      have e := Option.some.inj h
      exact K1 e.symm
/-! QuiverKin$Tokens.isWord -/
def b_X3_isWord_20 (a0 : Option Nat) (a1 : Option Nat) : Int32 × zGd × zMm → Option ((((Int32 × zGd × zMm) ⊕ (zGd × zMm))) ⊕ (Int32 × zGd × zMm)) := fun (v8, g9, m10) =>
(zrc g9 18 a1 (f_J3_length g9 m10 a1)).bind fun v11 =>
if v11 ≤ v8 then (some (.inl (.inr (g9, m10))))
else ((zgr g9 m10 3 0 a0).bind fun r12 =>
(zgi g9 m10 3 3 a0).bind fun v13 =>
(zald 102 g9 m10 r12 (v13 + v8)).bind fun v14 =>
(zrc g9 18 a1 (f_J3_charAt g9 m10 a1 v8)).bind fun (v15, g16, m17) =>
if v14 = v15 then (zlt (v8 + (1 : Int32)) fun v18 =>
some (.inr (v18, g16, m17)))
else (some (.inl (.inl (((0 : Int32), g16, m17))))))
def f_X3_isWord (g : zGd) (m : zMm) (a0 : Option Nat) (a1 : Option Nat) : Option (Int32 × zGd × zMm) :=
(zgi g m 3 2 a0).bind fun v1 =>
(zgi g m 3 3 a0).bind fun v2 =>
(zrc g 18 a1 (f_J3_length g m a1)).bind fun v3 =>
if (v1 - v2) = v3 then (zEx (σ := zGd × zMm) (zLoop (b_X3_isWord_20 a0 a1) zFuel ((0 : Int32), g, m)) fun (g5, m6) =>
some (((1 : Int32), g5, m6)))
else (some (((0 : Int32), g, m)))
theorem hy_X3_isWord : zHy yX3_isWord 1 := ⟨by decide, by decide, by decide +kernel⟩
set_option maxHeartbeats 4000000 in
theorem ok_X3_isWord (l : Launch) (g : zGd) (m : zMm) (a0 : Option Nat) (a1 : Option Nat) (z0 : Int32) (g0 : zGd) (m0 : zMm) (h : f_X3_isWord g m a0 a1 = some (z0, g0, m0)) : zCT l yX3_isWord cX3_isWord 3 (some .boolean) 5 105 g m [va_rf a0, va_rf a1] (some (.int z0)) g0 m0 := by
  refine zCT.of (own := "QuiverKin$Tokens") (mn := "isWord") (by decide +kernel) rfl rfl (zla_r (zla_r zla_0)) (zls_r (zls_r zls_0)) (by decide) (fun X hxl hxg hxf hxt hxr hxn => ?_)
  have Kret : ∀ (y0 : Int32) (y1 : zGd) (y2 : zMm), (y0, y1, y2) = (z0, g0, m0) → zRe X y1 y2 (some (.int y0)) := by
    intro y0 y1 y2 e; cases e; exact ⟨hxf, hxr, hxn⟩
  subst hxl
  show zG X cX3_isWord 3 "QuiverKin$Tokens" "isWord" 5 105 0 [(0, va_rf a0), (1, va_rf a1)] [] g m
  unfold f_X3_isWord at h
  refine g_aload_n dX3_isWord_0 0 rfl ?_
  refine gf_i zfd_3_2 q344  (fun _ h9 => h9) dX3_isWord_1 h (fun v1 h => ?_)
  refine g_aload_n dX3_isWord_4 0 rfl ?_
  refine gf_i zfd_3_3 q345  (fun _ h9 => h9) dX3_isWord_5 h (fun v2 h => ?_)
  refine g_isub dX3_isWord_8 ?_
  refine g_aload_n dX3_isWord_9 1 rfl ?_
  refine g_cVRv (rv := fun x : Int32 => Value.int x) [] (fun x0 e0 => ok_J3_length (xl X) g m a1 x0 e0) zc18 (by decide) (lw_V q432 q433 q434 q132 q435) rfl hy_J3_length rfl ⟨by decide, by decide⟩ rfl (zc_i zc_0) (by decide) dX3_isWord_10 h (fun v3 h => ?_)
  refine g_icmp_eq 18 dX3_isWord_13 (by decide) (fun c => ?_) (fun c => ?_)
  · have h := zite_p h c
    refine g_iconst (v := (0 : Int32)) dX3_isWord_18 (by decide) ?_
    refine g_istore_n [(2, .int (0 : Int32)), (0, va_rf a0), (1, va_rf a1)] dX3_isWord_19 (by decide) (zf_r (zf_r zf_0)) rfl ?_
    obtain ⟨o4, h1, hl4, hr4⟩ := zEx_e h
    have K4 : ∀ (g5 : zGd) (m6 : zMm), o4 = .inr (g5, m6) → zG X cX3_isWord 3 "QuiverKin$Tokens" "isWord" 5 105 55 [] [] g5 m6 := by
      intro g5 m6 e
      have h := hr4 _ e
      refine g_iconst (v := (1 : Int32)) dX3_isWord_55 (by decide) ?_
      refine g_zret dX3_isWord_56 hxt rfl ?_
      have e := Option.some.inj h
      exact Kret _ _ _ e
    refine zG.sub [1, 2, 0] rfl ?_
    refine zLoop_ok (Φ := (fun (q : Int32 × zGd × zMm) => match q with | (v8, g9, m10) => zG X cX3_isWord 3 "QuiverKin$Tokens" "isWord" 5 105 20 [(0, va_rf a0), (1, va_rf a1), (2, .int v8)] [] g9 m10)) o4 ?_ zFuel _ h1
    rintro ⟨v8, g9, m10⟩ x7 h hl7 hr7
    unfold b_X3_isWord_20 at h
    have K7 : ∀ (v8 : Int32) (g9 : zGd) (m10 : zMm), x7 = .inr (v8, g9, m10) → zG X cX3_isWord 3 "QuiverKin$Tokens" "isWord" 5 105 20 [(0, va_rf a0), (1, va_rf a1), (2, .int v8)] [] g9 m10 := by
      intro v8 g9 m10 e
      exact hr7 _ e
    show zG X cX3_isWord 3 "QuiverKin$Tokens" "isWord" 5 105 20 [(0, va_rf a0), (1, va_rf a1), (2, .int v8)] [] g9 m10
    refine g_iload_n dX3_isWord_20 2 rfl ?_
    refine g_aload_n dX3_isWord_21 1 rfl ?_
    refine g_cVRv (rv := fun x : Int32 => Value.int x) [] (fun x0 e0 => ok_J3_length (xl X) g9 m10 a1 x0 e0) zc18 (by decide) (lw_V q432 q433 q434 q132 q435) rfl hy_J3_length rfl ⟨by decide, by decide⟩ rfl (zc_i zc_0) (by decide) dX3_isWord_22 h (fun v11 h => ?_)
    refine g_icmp_ge 55 dX3_isWord_25 (by decide) (fun c => ?_) (fun c => ?_)
    · have h := zite_p h c
      refine zG.sub [] rfl ?_
      have e := Option.some.inj h
      have e := hl7 _ e.symm
      exact K4 _ _ e.symm
    · have h := zite_n h c
      refine g_aload_n dX3_isWord_28 0 rfl ?_
      refine gf_r zfd_3_0 q342  (fun _ h9 => h9) dX3_isWord_29 h (fun r12 h => ?_)
      refine g_aload_n dX3_isWord_32 0 rfl ?_
      refine gf_i zfd_3_3 q345  (fun _ h9 => h9) dX3_isWord_33 h (fun v13 h => ?_)
      refine g_iload_n dX3_isWord_36 2 rfl ?_
      refine g_iadd dX3_isWord_37 ?_
      refine g_bald dX3_isWord_38 h (fun v14 h => ?_)
      refine g_aload_n dX3_isWord_39 1 rfl ?_
      refine g_iload_n dX3_isWord_40 2 rfl ?_
      refine g_cVAv (rv := fun x : Int32 => Value.int x) [.int v8] (fun x0 g0 m0 e0 => ok_J3_charAt (xl X) g9 m10 a1 v8 x0 g0 m0 e0) zc18 (by decide) (lw_V q442 q443 q444 q132 q445) rfl hy_J3_charAt rfl ⟨by decide, by decide⟩ rfl (zc_i zc_0) (by decide) dX3_isWord_41 h (fun v15 g16 m17 h => ?_)
      refine g_icmp_eq 49 dX3_isWord_44 (by decide) (fun c => ?_) (fun c => ?_)
      · have h := zite_p h c
        refine g_iinc (v := (1 : Int32)) [(0, va_rf a0), (1, va_rf a1)] dX3_isWord_49 2 rfl (by decide) (by decide) (zf_r (zf_r (zf_i zf_0))) rfl h (fun v18 h => ?_)
        refine g_goto 20 dX3_isWord_52 (by decide) ?_
        refine zG.sub [1, 2, 0] rfl ?_
        have e := Option.some.inj h
        exact K7 _ _ _ e.symm
      · have h := zite_n h c
        refine g_iconst (v := (0 : Int32)) dX3_isWord_47 (by decide) ?_
        refine g_zret dX3_isWord_48 hxt rfl ?_
        have e := Option.some.inj h
        have e := hl7 _ e.symm
        have e := hl4 _ e.symm
        exact Kret _ _ _ e
  · have h := zite_n h c
    refine g_iconst (v := (0 : Int32)) dX3_isWord_16 (by decide) ?_
    refine g_zret dX3_isWord_17 hxt rfl ?_
    have e := Option.some.inj h
    exact Kret _ _ _ e
/-! QuiverKin$Tokens.next -/
def b_X3_next_0 (g : zGd) (a0 : Option Nat) : zMm → Option ((zMm) ⊕ (zMm)) := fun m4 =>
(zgi g m4 3 2 a0).bind fun v5 =>
(zgi g m4 3 1 a0).bind fun v6 =>
if v6 ≤ v5 then (some (.inl m4))
else ((zgr g m4 3 0 a0).bind fun r7 =>
(zgi g m4 3 2 a0).bind fun v8 =>
(zald 102 g m4 r7 v8).bind fun v9 =>
zEx (σ := Unit) (if v9 = (32 : Int32) then (some (.inr ()))
else ((zgr g m4 3 0 a0).bind fun r11 =>
(zgi g m4 3 2 a0).bind fun v12 =>
(zald 102 g m4 r11 v12).bind fun v13 =>
if v13 = (10 : Int32) then (some (.inr ()))
else (some (.inl (.inl m4))))) fun _ =>
(zgi g m4 3 2 a0).bind fun v14 =>
(zpi g m4 3 2 a0 (v14 + (1 : Int32))).bind fun m15 =>
some (.inr m15))
def b_X3_next_306 (a0 : Option Nat) (v30 : Int32) : Int32 × zGd × zMm → Option ((zGd × zMm) ⊕ (Int32 × zGd × zMm)) := fun (v38, g39, m40) =>
(zrc g39 18 (zS g39 10) (f_J3_length g39 m40 (zS g39 10))).bind fun v41 =>
if v41 ≤ v38 then (some (.inl ((g39, m40))))
else ((zrc g39 18 (zS g39 10) (f_J3_charAt g39 m40 (zS g39 10) v38)).bind fun (v42, g43, m44) =>
if v42 = v30 then ((zpi g43 m44 3 4 a0 v30).bind fun m46 =>
zlt (v38 + (1 : Int32)) fun v47 =>
some (.inr (v47, g43, m46)))
else (zlt (v38 + (1 : Int32)) fun v45 =>
some (.inr (v45, g43, m44))))
def b_X3_next_209 (g : zGd) (a0 : Option Nat) : zMm → Option ((zMm) ⊕ (zMm)) := fun m64 =>
(zgi g m64 3 2 a0).bind fun v65 =>
(zgi g m64 3 1 a0).bind fun v66 =>
if v66 ≤ v65 then (some (.inl m64))
else ((zgr g m64 3 0 a0).bind fun r67 =>
(zgi g m64 3 2 a0).bind fun v68 =>
(zald 102 g m64 r67 v68).bind fun v69 =>
(f_X3_isDigit v69).bind fun v70 =>
if v70 = 0 then (some (.inl m64))
else ((zgi g m64 3 5 a0).bind fun v71 =>
(zgr g m64 3 0 a0).bind fun r72 =>
(zgi g m64 3 2 a0).bind fun v73 =>
(zald 102 g m64 r72 v73).bind fun v74 =>
(f_J7_min (99999 : Int32) ((((10 : Int32) * v71) + v74) - (48 : Int32))).bind fun v75 =>
(zpi g m64 3 5 a0 v75).bind fun m76 =>
(zgi g m76 3 2 a0).bind fun v77 =>
(zpi g m76 3 2 a0 (v77 + (1 : Int32))).bind fun m78 =>
some (.inr m78)))
def b_X3_next_96 (g : zGd) (a0 : Option Nat) : zMm → Option ((zMm) ⊕ (zMm)) := fun m82 =>
(zgi g m82 3 2 a0).bind fun v83 =>
(zgi g m82 3 1 a0).bind fun v84 =>
if v84 ≤ v83 then (some (.inl m82))
else ((zgr g m82 3 0 a0).bind fun r85 =>
(zgi g m82 3 2 a0).bind fun v86 =>
(zald 102 g m82 r85 v86).bind fun v87 =>
(f_X3_isLetter v87).bind fun v88 =>
if v88 = 0 then (some (.inl m82))
else ((zgi g m82 3 2 a0).bind fun v89 =>
(zpi g m82 3 2 a0 (v89 + (1 : Int32))).bind fun m90 =>
some (.inr m90)))
def b_X3_next_144 (a0 : Option Nat) : Int32 × zGd × zMm → Option ((zGd × zMm) ⊕ (Int32 × zGd × zMm)) := fun (v96, g97, m98) =>
(zalen g97 (zS g97 1)).bind fun v99 =>
if v99 ≤ v96 then (some (.inl ((g97, m98))))
else ((zaldr 109 g97 m98 (zS g97 1) v96).bind fun r100 =>
(zrc g97 3 a0 (f_X3_isWord g97 m98 a0 r100)).bind fun (v101, g102, m103) =>
if v101 = 0 then (zlt (v96 + (1 : Int32)) fun v104 =>
some (.inr (v104, g102, m103)))
else ((zpi g102 m103 3 4 a0 ((200 : Int32) + v96)).bind fun m105 =>
zlt (v96 + (1 : Int32)) fun v106 =>
some (.inr (v106, g102, m105))))
def f_X3_next (g : zGd) (m : zMm) (a0 : Option Nat) : Option (zGd × zMm) :=
(zLoop (b_X3_next_0 g a0) zFuel m).bind fun m2 =>
(zgi g m2 3 2 a0).bind fun v16 =>
(zpi g m2 3 3 a0 v16).bind fun m17 =>
(zgi g m17 3 2 a0).bind fun v18 =>
(zgi g m17 3 1 a0).bind fun v19 =>
if v18 = v19 then ((zpi g m17 3 4 a0 (301 : Int32)).bind fun m107 =>
some ((g, m107)))
else ((zgr g m17 3 0 a0).bind fun r20 =>
(zgi g m17 3 2 a0).bind fun v21 =>
(zald 102 g m17 r20 v21).bind fun v22 =>
(f_X3_isLetter v22).bind fun v23 =>
if v23 = 0 then ((zgr g m17 3 0 a0).bind fun r24 =>
(zgi g m17 3 2 a0).bind fun v25 =>
(zald 102 g m17 r24 v25).bind fun v26 =>
(f_X3_isDigit v26).bind fun v27 =>
if v27 = 0 then ((zgr g m17 3 0 a0).bind fun r28 =>
(zgi g m17 3 2 a0).bind fun v29 =>
(zald 102 g m17 r28 v29).bind fun v30 =>
(zgi g m17 3 2 a0).bind fun v31 =>
(zpi g m17 3 2 a0 (v31 + (1 : Int32))).bind fun m32 =>
(zpi g m32 3 4 a0 (302 : Int32)).bind fun m33 =>
(zLoop (b_X3_next_306 a0 v30) zFuel ((0 : Int32), g, m33)).bind fun (g35, m36) =>
zEx (σ := Unit) (if v30 = (60 : Int32) then (some (.inr ()))
else (if v30 = (62 : Int32) then (some (.inr ()))
else (some (.inl ((g35, m36)))))) fun _ =>
(zgi g35 m36 3 2 a0).bind fun v49 =>
(zgi g35 m36 3 1 a0).bind fun v50 =>
if v50 ≤ v49 then (some ((g35, m36)))
else ((zgr g35 m36 3 0 a0).bind fun r51 =>
(zgi g35 m36 3 2 a0).bind fun v52 =>
(zald 102 g35 m36 r51 v52).bind fun v53 =>
if v53 = (61 : Int32) then (((if v30 = (60 : Int32) then (some ((303 : Int32)))
else (some ((304 : Int32))) : Option (Int32))).bind fun v55 =>
(zpi g35 m36 3 4 a0 v55).bind fun m56 =>
(zgi g35 m56 3 2 a0).bind fun v57 =>
(zpi g35 m56 3 2 a0 (v57 + (1 : Int32))).bind fun m58 =>
some ((g35, m58)))
else (some ((g35, m36)))))
else ((zpi g m17 3 4 a0 (300 : Int32)).bind fun m59 =>
(zpi g m59 3 5 a0 (0 : Int32)).bind fun m60 =>
(zLoop (b_X3_next_209 g a0) zFuel m60).bind fun m62 =>
some ((g, m62))))
else ((zLoop (b_X3_next_96 g a0) zFuel m17).bind fun m80 =>
(zpi g m80 3 4 a0 (302 : Int32)).bind fun m91 =>
(zLoop (b_X3_next_144 a0) zFuel ((0 : Int32), g, m91)).bind fun (g93, m94) =>
some ((g93, m94))))
theorem hy_X3_next : zHy yX3_next 0 := ⟨by decide, by decide, by decide +kernel⟩
set_option maxHeartbeats 4000000 in
theorem ok_X3_next (l : Launch) (g : zGd) (m : zMm) (a0 : Option Nat) (g0 : zGd) (m0 : zMm) (h : f_X3_next g m a0 = some (g0, m0)) : zCT l yX3_next cX3_next 3 none 6 127 g m [va_rf a0] none g0 m0 := by
  refine zCT.of (own := "QuiverKin$Tokens") (mn := "next") (by decide +kernel) rfl rfl (zla_r zla_0) (zls_r zls_0) (by decide) (fun X hxl hxg hxf hxt hxr hxn => ?_)
  have Kret : ∀ (y0 : zGd) (y1 : zMm), (y0, y1) = (g0, m0) → zRe X y0 y1 none := by
    intro y0 y1 e; cases e; exact ⟨hxf, hxr, hxn⟩
  subst hxl
  show zG X cX3_next 3 "QuiverKin$Tokens" "next" 6 127 0 [(0, va_rf a0)] [] g m
  unfold f_X3_next at h
  obtain ⟨o1, h1, h2⟩ := zB_e h
  have K1 : ∀ (m2 : zMm), o1 = m2 → zG X cX3_next 3 "QuiverKin$Tokens" "next" 6 127 52 [(0, va_rf a0)] [] g m2 := by
    intro m2 e
    rw [e] at h2
    have h := h2
    refine g_aload_n dX3_next_52 0 rfl ?_
    refine g_aload_n dX3_next_53 0 rfl ?_
    refine gf_i zfd_3_2 q344  (fun _ h9 => h9) dX3_next_54 h (fun v16 h => ?_)
    refine gp_i zpd_3_3 q345 (fun _ h9 => h9) dX3_next_57 h (fun m17 h => ?_)
    refine g_aload_n dX3_next_60 0 rfl ?_
    refine gf_i zfd_3_2 q344  (fun _ h9 => h9) dX3_next_61 h (fun v18 h => ?_)
    refine g_aload_n dX3_next_64 0 rfl ?_
    refine gf_i zfd_3_1 q343  (fun _ h9 => h9) dX3_next_65 h (fun v19 h => ?_)
    refine g_icmp_ne 81 dX3_next_68 (by decide) (fun c => ?_) (fun c => ?_)
    · have h := zite_n h c
      refine g_aload_n dX3_next_81 0 rfl ?_
      refine gf_r zfd_3_0 q342  (fun _ h9 => h9) dX3_next_82 h (fun r20 h => ?_)
      refine g_aload_n dX3_next_85 0 rfl ?_
      refine gf_i zfd_3_2 q344  (fun _ h9 => h9) dX3_next_86 h (fun v21 h => ?_)
      refine g_bald dX3_next_89 h (fun v22 h => ?_)
      refine g_cSRv (rv := fun x : Int32 => Value.int x) [.int v22] (fun x0 e0 => ok_X3_isLetter (xl X) g m17 v22 x0 e0) (lw_S q423 q424 q127 q425) hy_X3_isLetter rfl ⟨by decide, by decide⟩ rfl zc_0 (by decide) dX3_next_90 h (fun v23 h => ?_)
      refine g_if_eq 182 dX3_next_93 (by decide) (fun c => ?_) (fun c => ?_)
      · have h := zite_p h c
        refine g_aload_n dX3_next_182 0 rfl ?_
        refine gf_r zfd_3_0 q342  (fun _ h9 => h9) dX3_next_183 h (fun r24 h => ?_)
        refine g_aload_n dX3_next_186 0 rfl ?_
        refine gf_i zfd_3_2 q344  (fun _ h9 => h9) dX3_next_187 h (fun v25 h => ?_)
        refine g_bald dX3_next_190 h (fun v26 h => ?_)
        refine g_cSRv (rv := fun x : Int32 => Value.int x) [.int v26] (fun x0 e0 => ok_X3_isDigit (xl X) g m17 v26 x0 e0) (lw_S q480 q481 q127 q482) hy_X3_isDigit rfl ⟨by decide, by decide⟩ rfl zc_0 (by decide) dX3_next_191 h (fun v27 h => ?_)
        refine g_if_eq 277 dX3_next_194 (by decide) (fun c => ?_) (fun c => ?_)
        · have h := zite_p h c
          refine g_aload_n dX3_next_277 0 rfl ?_
          refine gf_r zfd_3_0 q342  (fun _ h9 => h9) dX3_next_278 h (fun r28 h => ?_)
          refine g_aload_n dX3_next_281 0 rfl ?_
          refine gf_i zfd_3_2 q344  (fun _ h9 => h9) dX3_next_282 h (fun v29 h => ?_)
          refine g_bald dX3_next_285 h (fun v30 h => ?_)
          refine g_istore_n [(1, .int v30), (0, va_rf a0)] dX3_next_286 (by decide) (zf_r zf_0) rfl ?_
          refine g_aload_n dX3_next_287 1 rfl ?_
          refine g_dup dX3_next_288 (zcat_r _) ?_
          refine gf_i zfd_3_2 q344  (fun _ h9 => h9) dX3_next_289 h (fun v31 h => ?_)
          refine g_iconst (v := (1 : Int32)) dX3_next_292 (by decide) ?_
          refine g_iadd dX3_next_293 ?_
          refine gp_i zpd_3_2 q344 (fun _ h9 => h9) dX3_next_294 h (fun m32 h => ?_)
          refine g_aload_n dX3_next_297 1 rfl ?_
          refine g_sipush (v := (302 : Int32)) dX3_next_298 (by decide) ?_
          refine gp_i zpd_3_4 q346 (fun _ h9 => h9) dX3_next_301 h (fun m33 h => ?_)
          refine g_iconst (v := (0 : Int32)) dX3_next_304 (by decide) ?_
          refine g_istore_n [(2, .int (0 : Int32)), (1, .int v30), (0, va_rf a0)] dX3_next_305 (by decide) (zf_i (zf_r zf_0)) rfl ?_
          obtain ⟨o34, h1, h2⟩ := zB_e h
          have K34 : ∀ (g35 : zGd) (m36 : zMm), o34 = (g35, m36) → zG X cX3_next 3 "QuiverKin$Tokens" "next" 6 127 336 [(0, va_rf a0), (1, .int v30)] [] g35 m36 := by
            intro g35 m36 e
            rw [e] at h2
            have h := h2
            refine g_iload_n dX3_next_336 1 rfl ?_
            refine g_bipush (v := (60 : Int32)) dX3_next_337 (by decide) ?_
            obtain ⟨o48, h1, hl48, hr48⟩ := zEx_e h
            have K48 : o48 = .inr () → zG X cX3_next 3 "QuiverKin$Tokens" "next" 6 127 348 [(0, va_rf a0), (1, .int v30)] [] g35 m36 := by
              intro e
              have h := hr48 _ e
              refine g_aload_n dX3_next_348 0 rfl ?_
              refine gf_i zfd_3_2 q344  (fun _ h9 => h9) dX3_next_349 h (fun v49 h => ?_)
              refine g_aload_n dX3_next_352 0 rfl ?_
              refine gf_i zfd_3_1 q343  (fun _ h9 => h9) dX3_next_353 h (fun v50 h => ?_)
              refine g_icmp_ge 402 dX3_next_356 (by decide) (fun c => ?_) (fun c => ?_)
              · have h := zite_p h c
                refine g_vret dX3_next_402 hxt ?_
                have e := Option.some.inj h
                exact Kret _ _ e
              · have h := zite_n h c
                refine g_aload_n dX3_next_359 0 rfl ?_
                refine gf_r zfd_3_0 q342  (fun _ h9 => h9) dX3_next_360 h (fun r51 h => ?_)
                refine g_aload_n dX3_next_363 0 rfl ?_
                refine gf_i zfd_3_2 q344  (fun _ h9 => h9) dX3_next_364 h (fun v52 h => ?_)
                refine g_bald dX3_next_367 h (fun v53 h => ?_)
                refine g_bipush (v := (61 : Int32)) dX3_next_368 (by decide) ?_
                refine g_icmp_ne 402 dX3_next_370 (by decide) (fun c => ?_) (fun c => ?_)
                · have h := zite_n h c
                  refine g_vret dX3_next_402 hxt ?_
                  have e := Option.some.inj h
                  exact Kret _ _ e
                · have h := zite_p h c
                  refine g_aload_n dX3_next_373 0 rfl ?_
                  refine g_iload_n dX3_next_374 1 rfl ?_
                  refine g_bipush (v := (60 : Int32)) dX3_next_375 (by decide) ?_
                  obtain ⟨o54, h1, h2⟩ := zB_e h
                  have K54 : ∀ (v55 : Int32), o54 = v55 → zG X cX3_next 3 "QuiverKin$Tokens" "next" 6 127 389 [(0, va_rf a0)] [.int v55, va_rf a0] g35 m36 := by
                    intro v55 e
                    rw [e] at h2
                    have h := h2
                    refine gp_i zpd_3_4 q346 (fun _ h9 => h9) dX3_next_389 h (fun m56 h => ?_)
                    refine g_aload_n dX3_next_392 0 rfl ?_
                    refine g_dup dX3_next_393 (zcat_r _) ?_
                    refine gf_i zfd_3_2 q344  (fun _ h9 => h9) dX3_next_394 h (fun v57 h => ?_)
                    refine g_iconst (v := (1 : Int32)) dX3_next_397 (by decide) ?_
                    refine g_iadd dX3_next_398 ?_
                    refine gp_i zpd_3_2 q344 (fun _ h9 => h9) dX3_next_399 h (fun m58 h => ?_)
                    refine g_vret dX3_next_402 hxt ?_
                    have e := Option.some.inj h
                    exact Kret _ _ e
                  have h := h1
                  refine g_icmp_ne 386 dX3_next_377 (by decide) (fun c => ?_) (fun c => ?_)
                  · have h := zite_n h c
                    refine g_sipush (v := (304 : Int32)) dX3_next_386 (by decide) ?_
                    refine zG.sub [0] rfl ?_
                    have e := Option.some.inj h
                    exact K54 _ e.symm
                  · have h := zite_p h c
                    refine g_sipush (v := (303 : Int32)) dX3_next_380 (by decide) ?_
                    refine g_goto 389 dX3_next_383 (by decide) ?_
                    refine zG.sub [0] rfl ?_
                    have e := Option.some.inj h
                    exact K54 _ e.symm
            have h := h1
            refine g_icmp_eq 348 dX3_next_339 (by decide) (fun c => ?_) (fun c => ?_)
            · have h := zite_p h c
              refine zG.sub [0, 1] rfl ?_
              have e := Option.some.inj h
              exact K48 e.symm
            · have h := zite_n h c
              refine g_iload_n dX3_next_342 1 rfl ?_
              refine g_bipush (v := (62 : Int32)) dX3_next_343 (by decide) ?_
              refine g_icmp_ne 402 dX3_next_345 (by decide) (fun c => ?_) (fun c => ?_)
              · have h := zite_n h c
                refine g_vret dX3_next_402 hxt ?_
                have e := Option.some.inj h
                have e := hl48 _ e.symm
                exact Kret _ _ e
              · have h := zite_p h c
                refine zG.sub [0, 1] rfl ?_
                have e := Option.some.inj h
                exact K48 e.symm
          refine zG.sub [2, 1, 0] rfl ?_
          refine zLoop_ok (Φ := (fun (q : Int32 × zGd × zMm) => match q with | (v38, g39, m40) => zG X cX3_next 3 "QuiverKin$Tokens" "next" 6 127 306 [(0, va_rf a0), (1, .int v30), (2, .int v38)] [] g39 m40)) o34 ?_ zFuel _ h1
          rintro ⟨v38, g39, m40⟩ x37 h hl37 hr37
          unfold b_X3_next_306 at h
          have K37 : ∀ (v38 : Int32) (g39 : zGd) (m40 : zMm), x37 = .inr (v38, g39, m40) → zG X cX3_next 3 "QuiverKin$Tokens" "next" 6 127 306 [(0, va_rf a0), (1, .int v30), (2, .int v38)] [] g39 m40 := by
            intro v38 g39 m40 e
            exact hr37 _ e
          show zG X cX3_next 3 "QuiverKin$Tokens" "next" 6 127 306 [(0, va_rf a0), (1, .int v30), (2, .int v38)] [] g39 m40
          refine g_iload_n dX3_next_306 2 rfl ?_
          refine g_ldcS (List.mem_singleton.mpr rfl) dX3_next_307 ?_
          refine g_cVRv (rv := fun x : Int32 => Value.int x) [] (fun x0 e0 => ok_J3_length (xl X) g39 m40 (zS g39 10) x0 e0) zc18 (by decide) (lw_V q432 q433 q434 q132 q435) rfl hy_J3_length rfl ⟨by decide, by decide⟩ rfl (zc_i zc_0) (by decide) dX3_next_309 h (fun v41 h => ?_)
          refine g_icmp_ge 336 dX3_next_312 (by decide) (fun c => ?_) (fun c => ?_)
          · have h := zite_p h c
            refine zG.sub [0, 1] rfl ?_
            have e := Option.some.inj h
            have e := hl37 _ e.symm
            exact K34 _ _ e.symm
          · have h := zite_n h c
            refine g_ldcS (List.mem_singleton.mpr rfl) dX3_next_315 ?_
            refine g_iload_n dX3_next_317 2 rfl ?_
            refine g_cVAv (rv := fun x : Int32 => Value.int x) [.int v38] (fun x0 g0 m0 e0 => ok_J3_charAt (xl X) g39 m40 (zS g39 10) v38 x0 g0 m0 e0) zc18 (by decide) (lw_V q442 q443 q444 q132 q445) rfl hy_J3_charAt rfl ⟨by decide, by decide⟩ rfl zc_0 (by decide) dX3_next_318 h (fun v42 g43 m44 h => ?_)
            refine g_iload_n dX3_next_321 1 rfl ?_
            refine g_icmp_ne 330 dX3_next_322 (by decide) (fun c => ?_) (fun c => ?_)
            · have h := zite_n h c
              refine g_iinc (v := (1 : Int32)) [(0, va_rf a0), (1, .int v30)] dX3_next_330 2 rfl (by decide) (by decide) (zf_r (zf_i (zf_i zf_0))) rfl h (fun v45 h => ?_)
              refine g_goto 306 dX3_next_333 (by decide) ?_
              refine zG.sub [1, 2, 0] rfl ?_
              have e := Option.some.inj h
              exact K37 _ _ _ e.symm
            · have h := zite_p h c
              refine g_aload_n dX3_next_325 0 rfl ?_
              refine g_iload_n dX3_next_326 1 rfl ?_
              refine gp_i zpd_3_4 q346 (fun _ h9 => h9) dX3_next_327 h (fun m46 h => ?_)
              refine g_iinc (v := (1 : Int32)) [(0, va_rf a0), (1, .int v30)] dX3_next_330 2 rfl (by decide) (by decide) (zf_r (zf_i (zf_i zf_0))) rfl h (fun v47 h => ?_)
              refine g_goto 306 dX3_next_333 (by decide) ?_
              refine zG.sub [1, 2, 0] rfl ?_
              have e := Option.some.inj h
              exact K37 _ _ _ e.symm
        · have h := zite_n h c
          refine g_aload_n dX3_next_197 0 rfl ?_
          refine g_sipush (v := (300 : Int32)) dX3_next_198 (by decide) ?_
          refine gp_i zpd_3_4 q346 (fun _ h9 => h9) dX3_next_201 h (fun m59 h => ?_)
          refine g_aload_n dX3_next_204 0 rfl ?_
          refine g_iconst (v := (0 : Int32)) dX3_next_205 (by decide) ?_
          refine gp_i zpd_3_5 q347 (fun _ h9 => h9) dX3_next_206 h (fun m60 h => ?_)
          obtain ⟨o61, h1, h2⟩ := zB_e h
          have K61 : ∀ (m62 : zMm), o61 = m62 → zG X cX3_next 3 "QuiverKin$Tokens" "next" 6 127 402 [] [] g m62 := by
            intro m62 e
            rw [e] at h2
            have h := h2
            refine g_vret dX3_next_402 hxt ?_
            have e := Option.some.inj h
            exact Kret _ _ e
          refine zG.sub [0] rfl ?_
          refine zLoop_ok (Φ := (fun m64 : zMm => zG X cX3_next 3 "QuiverKin$Tokens" "next" 6 127 209 [(0, va_rf a0)] [] g m64)) o61 ?_ zFuel _ h1
          rintro m64 x63 h hl63 hr63
          unfold b_X3_next_209 at h
          have K63 : ∀ (m64 : zMm), x63 = .inr m64 → zG X cX3_next 3 "QuiverKin$Tokens" "next" 6 127 209 [(0, va_rf a0)] [] g m64 := by
            intro m64 e
            exact hr63 _ e
          show zG X cX3_next 3 "QuiverKin$Tokens" "next" 6 127 209 [(0, va_rf a0)] [] g m64
          refine g_aload_n dX3_next_209 0 rfl ?_
          refine gf_i zfd_3_2 q344  (fun _ h9 => h9) dX3_next_210 h (fun v65 h => ?_)
          refine g_aload_n dX3_next_213 0 rfl ?_
          refine gf_i zfd_3_1 q343  (fun _ h9 => h9) dX3_next_214 h (fun v66 h => ?_)
          refine g_icmp_ge 402 dX3_next_217 (by decide) (fun c => ?_) (fun c => ?_)
          · have h := zite_p h c
            refine zG.sub [] rfl ?_
            have e := Option.some.inj h
            have e := hl63 _ e.symm
            exact K61 _ e.symm
          · have h := zite_n h c
            refine g_aload_n dX3_next_220 0 rfl ?_
            refine gf_r zfd_3_0 q342  (fun _ h9 => h9) dX3_next_221 h (fun r67 h => ?_)
            refine g_aload_n dX3_next_224 0 rfl ?_
            refine gf_i zfd_3_2 q344  (fun _ h9 => h9) dX3_next_225 h (fun v68 h => ?_)
            refine g_bald dX3_next_228 h (fun v69 h => ?_)
            refine g_cSRv (rv := fun x : Int32 => Value.int x) [.int v69] (fun x0 e0 => ok_X3_isDigit (xl X) g m64 v69 x0 e0) (lw_S q480 q481 q127 q482) hy_X3_isDigit rfl ⟨by decide, by decide⟩ rfl zc_0 (by decide) dX3_next_229 h (fun v70 h => ?_)
            refine g_if_eq 402 dX3_next_232 (by decide) (fun c => ?_) (fun c => ?_)
            · have h := zite_p h c
              refine zG.sub [] rfl ?_
              have e := Option.some.inj h
              have e := hl63 _ e.symm
              exact K61 _ e.symm
            · have h := zite_n h c
              refine g_aload_n dX3_next_235 0 rfl ?_
              refine g_ldc (v := (99999 : Int32)) q483 dX3_next_236 ?_
              refine g_bipush (v := (10 : Int32)) dX3_next_238 (by decide) ?_
              refine g_aload_n dX3_next_240 0 rfl ?_
              refine gf_i zfd_3_5 q347  (fun _ h9 => h9) dX3_next_241 h (fun v71 h => ?_)
              refine g_imul dX3_next_244 ?_
              refine g_aload_n dX3_next_245 0 rfl ?_
              refine gf_r zfd_3_0 q342  (fun _ h9 => h9) dX3_next_246 h (fun r72 h => ?_)
              refine g_aload_n dX3_next_249 0 rfl ?_
              refine gf_i zfd_3_2 q344  (fun _ h9 => h9) dX3_next_250 h (fun v73 h => ?_)
              refine g_bald dX3_next_253 h (fun v74 h => ?_)
              refine g_iadd dX3_next_254 ?_
              refine g_bipush (v := (48 : Int32)) dX3_next_255 (by decide) ?_
              refine g_isub dX3_next_257 ?_
              refine g_cSRv (rv := fun x : Int32 => Value.int x) [.int (99999 : Int32), .int ((((10 : Int32) * v71) + v74) - (48 : Int32))] (fun x0 e0 => ok_J7_min (xl X) g m64 (99999 : Int32) ((((10 : Int32) * v71) + v74) - (48 : Int32)) x0 e0) (lw_S q484 q485 q136 q486) hy_J7_min rfl ⟨by decide, by decide⟩ rfl (zc_r zc_0) (by decide) dX3_next_258 h (fun v75 h => ?_)
              refine gp_i zpd_3_5 q347 (fun _ h9 => h9) dX3_next_261 h (fun m76 h => ?_)
              refine g_aload_n dX3_next_264 0 rfl ?_
              refine g_dup dX3_next_265 (zcat_r _) ?_
              refine gf_i zfd_3_2 q344  (fun _ h9 => h9) dX3_next_266 h (fun v77 h => ?_)
              refine g_iconst (v := (1 : Int32)) dX3_next_269 (by decide) ?_
              refine g_iadd dX3_next_270 ?_
              refine gp_i zpd_3_2 q344 (fun _ h9 => h9) dX3_next_271 h (fun m78 h => ?_)
              refine g_goto 209 dX3_next_274 (by decide) ?_
              refine zG.sub [0] rfl ?_
              have e := Option.some.inj h
              exact K63 _ e.symm
      · have h := zite_n h c
        obtain ⟨o79, h1, h2⟩ := zB_e h
        have K79 : ∀ (m80 : zMm), o79 = m80 → zG X cX3_next 3 "QuiverKin$Tokens" "next" 6 127 135 [(0, va_rf a0)] [] g m80 := by
          intro m80 e
          rw [e] at h2
          have h := h2
          refine g_aload_n dX3_next_135 0 rfl ?_
          refine g_sipush (v := (302 : Int32)) dX3_next_136 (by decide) ?_
          refine gp_i zpd_3_4 q346 (fun _ h9 => h9) dX3_next_139 h (fun m91 h => ?_)
          refine g_iconst (v := (0 : Int32)) dX3_next_142 (by decide) ?_
          refine g_istore_n [(1, .int (0 : Int32)), (0, va_rf a0)] dX3_next_143 (by decide) (zf_r zf_0) rfl ?_
          obtain ⟨o92, h1, h2⟩ := zB_e h
          have K92 : ∀ (g93 : zGd) (m94 : zMm), o92 = (g93, m94) → zG X cX3_next 3 "QuiverKin$Tokens" "next" 6 127 179 [] [] g93 m94 := by
            intro g93 m94 e
            rw [e] at h2
            have h := h2
            refine g_goto 402 dX3_next_179 (by decide) ?_
            refine g_vret dX3_next_402 hxt ?_
            have e := Option.some.inj h
            exact Kret _ _ e
          refine zG.sub [1, 0] rfl ?_
          refine zLoop_ok (Φ := (fun (q : Int32 × zGd × zMm) => match q with | (v96, g97, m98) => zG X cX3_next 3 "QuiverKin$Tokens" "next" 6 127 144 [(0, va_rf a0), (1, .int v96)] [] g97 m98)) o92 ?_ zFuel _ h1
          rintro ⟨v96, g97, m98⟩ x95 h hl95 hr95
          unfold b_X3_next_144 at h
          have K95 : ∀ (v96 : Int32) (g97 : zGd) (m98 : zMm), x95 = .inr (v96, g97, m98) → zG X cX3_next 3 "QuiverKin$Tokens" "next" 6 127 144 [(0, va_rf a0), (1, .int v96)] [] g97 m98 := by
            intro v96 g97 m98 e
            exact hr95 _ e
          show zG X cX3_next 3 "QuiverKin$Tokens" "next" 6 127 144 [(0, va_rf a0), (1, .int v96)] [] g97 m98
          refine g_iload_n dX3_next_144 1 rfl ?_
          refine g_gets (List.mem_of_getElem? (i := 1) rfl) q426 (fun _ h9 => h9) dX3_next_145 ?_
          refine g_alen dX3_next_148 h (fun v99 h => ?_)
          refine g_icmp_ge 179 dX3_next_149 (by decide) (fun c => ?_) (fun c => ?_)
          · have h := zite_p h c
            refine zG.sub [] rfl ?_
            have e := Option.some.inj h
            have e := hl95 _ e.symm
            exact K92 _ _ e.symm
          · have h := zite_n h c
            refine g_aload_n dX3_next_152 0 rfl ?_
            refine g_gets (List.mem_of_getElem? (i := 1) rfl) q426 (fun _ h9 => h9) dX3_next_153 ?_
            refine g_iload_n dX3_next_156 1 rfl ?_
            refine g_aald 8 rfl rfl (by decide)  dX3_next_157 h (fun r100 h => ?_)
            refine g_cVAv (rv := fun x : Int32 => Value.int x) [va_rf r100] (fun x0 g0 m0 e0 => ok_X3_isWord (xl X) g97 m98 a0 r100 x0 g0 m0 e0) zc3 (by decide) (lw_V q428 q430 qs3 q127 q431) rfl hy_X3_isWord rfl ⟨by decide, by decide⟩ rfl zc_0 (by decide) dX3_next_158 h (fun v101 g102 m103 h => ?_)
            refine g_if_eq 173 dX3_next_161 (by decide) (fun c => ?_) (fun c => ?_)
            · have h := zite_p h c
              refine g_iinc (v := (1 : Int32)) [(0, va_rf a0)] dX3_next_173 1 rfl (by decide) (by decide) (zf_r (zf_i zf_0)) rfl h (fun v104 h => ?_)
              refine g_goto 144 dX3_next_176 (by decide) ?_
              refine zG.sub [1, 0] rfl ?_
              have e := Option.some.inj h
              exact K95 _ _ _ e.symm
            · have h := zite_n h c
              refine g_aload_n dX3_next_164 0 rfl ?_
              refine g_sipush (v := (200 : Int32)) dX3_next_165 (by decide) ?_
              refine g_iload_n dX3_next_168 1 rfl ?_
              refine g_iadd dX3_next_169 ?_
              refine gp_i zpd_3_4 q346 (fun _ h9 => h9) dX3_next_170 h (fun m105 h => ?_)
              refine g_iinc (v := (1 : Int32)) [(0, va_rf a0)] dX3_next_173 1 rfl (by decide) (by decide) (zf_r (zf_i zf_0)) rfl h (fun v106 h => ?_)
              refine g_goto 144 dX3_next_176 (by decide) ?_
              refine zG.sub [1, 0] rfl ?_
              have e := Option.some.inj h
              exact K95 _ _ _ e.symm
        refine zG.sub [0] rfl ?_
        refine zLoop_ok (Φ := (fun m82 : zMm => zG X cX3_next 3 "QuiverKin$Tokens" "next" 6 127 96 [(0, va_rf a0)] [] g m82)) o79 ?_ zFuel _ h1
        rintro m82 x81 h hl81 hr81
        unfold b_X3_next_96 at h
        have K81 : ∀ (m82 : zMm), x81 = .inr m82 → zG X cX3_next 3 "QuiverKin$Tokens" "next" 6 127 96 [(0, va_rf a0)] [] g m82 := by
          intro m82 e
          exact hr81 _ e
        show zG X cX3_next 3 "QuiverKin$Tokens" "next" 6 127 96 [(0, va_rf a0)] [] g m82
        refine g_aload_n dX3_next_96 0 rfl ?_
        refine gf_i zfd_3_2 q344  (fun _ h9 => h9) dX3_next_97 h (fun v83 h => ?_)
        refine g_aload_n dX3_next_100 0 rfl ?_
        refine gf_i zfd_3_1 q343  (fun _ h9 => h9) dX3_next_101 h (fun v84 h => ?_)
        refine g_icmp_ge 135 dX3_next_104 (by decide) (fun c => ?_) (fun c => ?_)
        · have h := zite_p h c
          refine zG.sub [0] rfl ?_
          have e := Option.some.inj h
          have e := hl81 _ e.symm
          exact K79 _ e.symm
        · have h := zite_n h c
          refine g_aload_n dX3_next_107 0 rfl ?_
          refine gf_r zfd_3_0 q342  (fun _ h9 => h9) dX3_next_108 h (fun r85 h => ?_)
          refine g_aload_n dX3_next_111 0 rfl ?_
          refine gf_i zfd_3_2 q344  (fun _ h9 => h9) dX3_next_112 h (fun v86 h => ?_)
          refine g_bald dX3_next_115 h (fun v87 h => ?_)
          refine g_cSRv (rv := fun x : Int32 => Value.int x) [.int v87] (fun x0 e0 => ok_X3_isLetter (xl X) g m82 v87 x0 e0) (lw_S q423 q424 q127 q425) hy_X3_isLetter rfl ⟨by decide, by decide⟩ rfl zc_0 (by decide) dX3_next_116 h (fun v88 h => ?_)
          refine g_if_eq 135 dX3_next_119 (by decide) (fun c => ?_) (fun c => ?_)
          · have h := zite_p h c
            refine zG.sub [0] rfl ?_
            have e := Option.some.inj h
            have e := hl81 _ e.symm
            exact K79 _ e.symm
          · have h := zite_n h c
            refine g_aload_n dX3_next_122 0 rfl ?_
            refine g_dup dX3_next_123 (zcat_r _) ?_
            refine gf_i zfd_3_2 q344  (fun _ h9 => h9) dX3_next_124 h (fun v89 h => ?_)
            refine g_iconst (v := (1 : Int32)) dX3_next_127 (by decide) ?_
            refine g_iadd dX3_next_128 ?_
            refine gp_i zpd_3_2 q344 (fun _ h9 => h9) dX3_next_129 h (fun m90 h => ?_)
            refine g_goto 96 dX3_next_132 (by decide) ?_
            refine zG.sub [0] rfl ?_
            have e := Option.some.inj h
            exact K81 _ e.symm
    · have h := zite_p h c
      refine g_aload_n dX3_next_71 0 rfl ?_
      refine g_sipush (v := (301 : Int32)) dX3_next_72 (by decide) ?_
      refine gp_i zpd_3_4 q346 (fun _ h9 => h9) dX3_next_75 h (fun m107 h => ?_)
      refine g_goto 402 dX3_next_78 (by decide) ?_
      refine g_vret dX3_next_402 hxt ?_
      have e := Option.some.inj h
      exact Kret _ _ e
  refine zG.sub [0] rfl ?_
  refine zLoop_ok (Φ := (fun m4 : zMm => zG X cX3_next 3 "QuiverKin$Tokens" "next" 6 127 0 [(0, va_rf a0)] [] g m4)) o1 ?_ zFuel _ h1
  rintro m4 x3 h hl3 hr3
  unfold b_X3_next_0 at h
  have K3 : ∀ (m4 : zMm), x3 = .inr m4 → zG X cX3_next 3 "QuiverKin$Tokens" "next" 6 127 0 [(0, va_rf a0)] [] g m4 := by
    intro m4 e
    exact hr3 _ e
  show zG X cX3_next 3 "QuiverKin$Tokens" "next" 6 127 0 [(0, va_rf a0)] [] g m4
  refine g_aload_n dX3_next_0 0 rfl ?_
  refine gf_i zfd_3_2 q344  (fun _ h9 => h9) dX3_next_1 h (fun v5 h => ?_)
  refine g_aload_n dX3_next_4 0 rfl ?_
  refine gf_i zfd_3_1 q343  (fun _ h9 => h9) dX3_next_5 h (fun v6 h => ?_)
  refine g_icmp_ge 52 dX3_next_8 (by decide) (fun c => ?_) (fun c => ?_)
  · have h := zite_p h c
    refine zG.sub [0] rfl ?_
    have e := Option.some.inj h
    have e := hl3 _ e.symm
    exact K1 _ e.symm
  · have h := zite_n h c
    refine g_aload_n dX3_next_11 0 rfl ?_
    refine gf_r zfd_3_0 q342  (fun _ h9 => h9) dX3_next_12 h (fun r7 h => ?_)
    refine g_aload_n dX3_next_15 0 rfl ?_
    refine gf_i zfd_3_2 q344  (fun _ h9 => h9) dX3_next_16 h (fun v8 h => ?_)
    refine g_bald dX3_next_19 h (fun v9 h => ?_)
    refine g_bipush (v := (32 : Int32)) dX3_next_20 (by decide) ?_
    obtain ⟨o10, h1, hl10, hr10⟩ := zEx_e h
    have K10 : o10 = .inr () → zG X cX3_next 3 "QuiverKin$Tokens" "next" 6 127 39 [(0, va_rf a0)] [] g m4 := by
      intro e
      have h := hr10 _ e
      refine g_aload_n dX3_next_39 0 rfl ?_
      refine g_dup dX3_next_40 (zcat_r _) ?_
      refine gf_i zfd_3_2 q344  (fun _ h9 => h9) dX3_next_41 h (fun v14 h => ?_)
      refine g_iconst (v := (1 : Int32)) dX3_next_44 (by decide) ?_
      refine g_iadd dX3_next_45 ?_
      refine gp_i zpd_3_2 q344 (fun _ h9 => h9) dX3_next_46 h (fun m15 h => ?_)
      refine g_goto 0 dX3_next_49 (by decide) ?_
      refine zG.sub [0] rfl ?_
      have e := Option.some.inj h
      exact K3 _ e.symm
    have h := h1
    refine g_icmp_eq 39 dX3_next_22 (by decide) (fun c => ?_) (fun c => ?_)
    · have h := zite_p h c
      refine zG.sub [0] rfl ?_
      have e := Option.some.inj h
      exact K10 e.symm
    · have h := zite_n h c
      refine g_aload_n dX3_next_25 0 rfl ?_
      refine gf_r zfd_3_0 q342  (fun _ h9 => h9) dX3_next_26 h (fun r11 h => ?_)
      refine g_aload_n dX3_next_29 0 rfl ?_
      refine gf_i zfd_3_2 q344  (fun _ h9 => h9) dX3_next_30 h (fun v12 h => ?_)
      refine g_bald dX3_next_33 h (fun v13 h => ?_)
      refine g_bipush (v := (10 : Int32)) dX3_next_34 (by decide) ?_
      refine g_icmp_ne 52 dX3_next_36 (by decide) (fun c => ?_) (fun c => ?_)
      · have h := zite_n h c
        refine zG.sub [0] rfl ?_
        have e := Option.some.inj h
        have e := hl10 _ e.symm
        have e := hl3 _ e.symm
        exact K1 _ e.symm
      · have h := zite_p h c
        refine zG.sub [0] rfl ?_
        have e := Option.some.inj h
        exact K10 e.symm
/-! QuiverKin$Wrong.<init> -/
def f_X5_init (g : zGd) (m : zMm) (a0 : Option Nat) (a1 : Int32) (a2 : Int32) : Option (zMm) :=
(zexc g m a0).bind fun _ =>
(zpi g m 5 0 a0 a1).bind fun m1 =>
(zpi g m1 5 1 a0 a2).bind fun m2 =>
some (m2)
theorem hy_X5_init : zHy yX5_init 2 := ⟨by decide, by decide, by decide +kernel⟩
set_option maxHeartbeats 4000000 in
theorem ok_X5_init (l : Launch) (g : zGd) (m : zMm) (a0 : Option Nat) (a1 : Int32) (a2 : Int32) (m0 : zMm) (h : f_X5_init g m a0 a1 a2 = some m0) : zCT l yX5_init cX5_init 3 none 4 80 g m [va_rf a0, .int a1, .int a2] none g m0 := by
  refine zCT.of (own := "QuiverKin$Wrong") (mn := "<init>") (by decide +kernel) rfl rfl (zla_r (zla_i (zla_i zla_0))) (zls_r (zls_i (zls_i zls_0))) (by decide) (fun X hxl hxg hxf hxt hxr hxn => ?_)
  have Kret : ∀ (y0 : zMm), y0 = m0 → zRe X g y0 none := by
    intro y0 e; cases e; exact ⟨hxf, hxr, hxn⟩
  subst hxl
  show zG X cX5_init 3 "QuiverKin$Wrong" "<init>" 4 80 0 [(0, va_rf a0), (1, .int a1), (2, .int a2)] [] g m
  unfold f_X5_init at h
  refine g_aload_n dX5_init_0 0 rfl ?_
  refine g_excI q532 zc_0 (by decide) (by decide) dX5_init_1 h (fun h => ?_)
  refine g_aload_n dX5_init_4 0 rfl ?_
  refine g_iload_n dX5_init_5 1 rfl ?_
  refine gp_iF zpd_5_0 q536 (fun _ h9 => h9) rfl rfl dX5_init_6 h (fun m1 h => ?_)
  refine g_aload_n dX5_init_9 0 rfl ?_
  refine g_iload_n dX5_init_10 2 rfl ?_
  refine gp_iF zpd_5_1 q538 (fun _ h9 => h9) rfl rfl dX5_init_11 h (fun m2 h => ?_)
  refine g_vret dX5_init_14 hxt ?_
  have e := Option.some.inj h
  exact Kret _ e
/-! QuiverKin$Tokens.wrong -/
def f_X3_wrong (g : zGd) (m : zMm) (a0 : Option Nat) (a1 : Int32) : Option (Option Nat × zGd × zMm) :=
zlt (znewo g m 5) fun (g1, m2) =>
zlt (some (zZ g)) fun r3 =>
(zgi g1 m2 3 3 a0).bind fun v4 =>
zob r3 ((f_X5_init g1 m2 r3 a1 v4).bind fun m5 =>
some ((r3, g1, m5)))
theorem hy_X3_wrong : zHy yX3_wrong 1 := ⟨by decide, by decide, by decide +kernel⟩
set_option maxHeartbeats 4000000 in
theorem ok_X3_wrong (l : Launch) (g : zGd) (m : zMm) (a0 : Option Nat) (a1 : Int32) (z0 : Option Nat) (g0 : zGd) (m0 : zMm) (h : f_X3_wrong g m a0 a1 = some (z0, g0, m0)) : zCT l yX3_wrong cX3_wrong 2 (some (.object "QuiverKin$Wrong")) 5 102 g m [va_rf a0, .int a1] (some (va_rf z0)) g0 m0 := by
  refine zCT.of (own := "QuiverKin$Tokens") (mn := "wrong") (by decide +kernel) rfl rfl (zla_r (zla_i zla_0)) (zls_r (zls_i zls_0)) (by decide) (fun X hxl hxg hxf hxt hxr hxn => ?_)
  have Kret : ∀ (y0 : Option Nat) (y1 : zGd) (y2 : zMm), (y0, y1, y2) = (z0, g0, m0) → zRe X y1 y2 (some (va_rf y0)) := by
    intro y0 y1 y2 e; cases e; exact ⟨hxf, hxr, hxn⟩
  subst hxl
  show zG X cX3_wrong 2 "QuiverKin$Tokens" "wrong" 5 102 0 [(0, va_rf a0), (1, .int a1)] [] g m
  unfold f_X3_wrong at h
  refine gn_new znd_5 q492 dX3_wrong_0 h (fun g1 m2 h => ?_)
  refine g_letr h (fun r3 h => ?_)
  refine g_dup dX3_wrong_3 (zcat_r _) ?_
  refine g_iload_n dX3_wrong_4 1 rfl ?_
  refine g_aload_n dX3_wrong_5 0 rfl ?_
  refine gf_i zfd_3_3 q345  (fun _ h9 => h9) dX3_wrong_6 h (fun v4 h => ?_)
  obtain ⟨hs, h⟩ := zob_e h
  refine g_cIMn [.int a1, .int v4] (fun m0 e0 => ok_X5_init (xl X) g1 m2 r3 a1 v4 m0 e0) (lw_meth q531) q139 q529 q530 rfl hy_X5_init rfl ⟨by decide, by decide⟩ rfl (zc_r zc_0) (by decide) hs dX3_wrong_9 h (fun m5 h => ?_)
  refine g_aret dX3_wrong_12 hxt (by first | exact Or.inl ⟨_, rfl⟩ | exact Or.inr ⟨_, rfl⟩) ?_
  have e := Option.some.inj h
  exact Kret _ _ _ e
/-! QuiverKin$Tokens.number -/
def f_X3_number (g : zGd) (m : zMm) (a0 : Option Nat) (a1 : Int32) (a2 : Int32) : Option (((Int32) × zGd × zMm) ⊕ (Nat × zGd × zMm)) :=
(zgi g m 3 4 a0).bind fun v1 =>
if v1 = (300 : Int32) then ((zgi g m 3 5 a0).bind fun v2 =>
zEx (σ := Unit) (if v2 < a1 then (some (.inr ()))
else ((zgi g m 3 5 a0).bind fun v4 =>
if v4 ≤ a2 then ((zgi g m 3 5 a0).bind fun v5 =>
(zrc g 3 a0 (f_X3_next g m a0)).bind fun (g6, m7) =>
some (.inl (.inl (v5, g6, m7))))
else (some (.inr ())))) fun _ =>
(zrc g 3 a0 (f_X3_wrong g m a0 (2 : Int32))).bind fun (r8, g9, m10) =>
(zthr g9 r8).bind fun q11 =>
some (.inr (q11, g9, m10)))
else ((zrc g 3 a0 (f_X3_wrong g m a0 (1 : Int32))).bind fun (r12, g13, m14) =>
(zthr g13 r12).bind fun q15 =>
some (.inr (q15, g13, m14)))
theorem hy_X3_number : zHy yX3_number 2 := ⟨by decide, by decide, by decide +kernel⟩
set_option maxHeartbeats 4000000 in
theorem ok_X3_number (l : Launch) (g : zGd) (m : zMm) (a0 : Option Nat) (a1 : Int32) (a2 : Int32) (r0 : ((Int32) × zGd × zMm) ⊕ (Nat × zGd × zMm)) (h : f_X3_number g m a0 a1 a2 = some r0) : zCTX l yX3_number cX3_number 4 (some .int) 7 149 g m [va_rf a0, .int a1, .int a2] (fun x : Int32 => some (Value.int x)) r0 := by
  unfold zCTX
  refine zXT.of (own := "QuiverKin$Tokens") (mn := "number") (by decide +kernel) rfl rfl (zla_r (zla_i (zla_i zla_0))) (zls_r (zls_i (zls_i zls_0))) (by decide) (fun X hxl hxg hxf hxt hxr hxn => ?_)
  have Kret : ∀ (x : Int32) (g1 : zGd) (m1 : zMm), .inl (x, g1, m1) = r0 → zRe X g1 m1 (some (.int x)) := by
    intro x g1 m1 e; cases e; exact ⟨hxf, hxr, hxn⟩
  have Kthr : ∀ (q : Nat) (g1 : zGd) (m1 : zMm), .inr (q, g1, m1) = r0 → zRt X g1 m1 q := by
    intro q g1 m1 e; cases e; exact ⟨hxf, hxr, hxn⟩
  subst hxl
  show zG X cX3_number 4 "QuiverKin$Tokens" "number" 7 149 0 [(0, va_rf a0), (1, .int a1), (2, .int a2)] [] g m
  unfold f_X3_number at h
  refine g_aload_n dX3_number_0 0 rfl ?_
  refine gf_i zfd_3_4 q346  (fun _ h9 => h9) dX3_number_1 h (fun v1 h => ?_)
  refine g_sipush (v := (300 : Int32)) dX3_number_4 (by decide) ?_
  refine g_icmp_eq 16 dX3_number_7 (by decide) (fun c => ?_) (fun c => ?_)
  · have h := zite_p h c
    refine g_aload_n dX3_number_16 0 rfl ?_
    refine gf_i zfd_3_5 q347  (fun _ h9 => h9) dX3_number_17 h (fun v2 h => ?_)
    refine g_iload_n dX3_number_20 1 rfl ?_
    obtain ⟨o3, h1, hl3, hr3⟩ := zEx_e h
    have K3 : o3 = .inr () → zG X cX3_number 4 "QuiverKin$Tokens" "number" 7 149 32 [(0, va_rf a0)] [] g m := by
      intro e
      have h := hr3 _ e
      refine g_aload_n dX3_number_32 0 rfl ?_
      refine g_iconst (v := (2 : Int32)) dX3_number_33 (by decide) ?_
      refine g_cVAv (rv := fun x : Option Nat => va_rf x) [.int (2 : Int32)] (fun x0 g0 m0 e0 => ok_X3_wrong (xl X) g m a0 (2 : Int32) x0 g0 m0 e0) zc3 (by decide) (lw_V q488 q490 qs4 q127 q491) rfl hy_X3_wrong rfl ⟨by decide, by decide⟩ rfl zc_0 (by decide) dX3_number_34 h (fun r8 g9 m10 h => ?_)
      refine g_athrow dX3_number_37 h (fun q11 hk6 h => ?_)
      refine g_out ?_ hk6
      have e := Option.some.inj h
      exact Kthr _ _ _ e
    have h := h1
    refine g_icmp_lt 32 dX3_number_21 (by decide) (fun c => ?_) (fun c => ?_)
    · have h := zite_p h c
      refine zG.sub [0] rfl ?_
      have e := Option.some.inj h
      exact K3 e.symm
    · have h := zite_n h c
      refine g_aload_n dX3_number_24 0 rfl ?_
      refine gf_i zfd_3_5 q347  (fun _ h9 => h9) dX3_number_25 h (fun v4 h => ?_)
      refine g_iload_n dX3_number_28 2 rfl ?_
      refine g_icmp_le 38 dX3_number_29 (by decide) (fun c => ?_) (fun c => ?_)
      · have h := zite_p h c
        refine g_aload_n dX3_number_38 0 rfl ?_
        refine gf_i zfd_3_5 q347  (fun _ h9 => h9) dX3_number_39 h (fun v5 h => ?_)
        refine g_istore_n [(3, .int v5), (0, va_rf a0), (1, .int a1), (2, .int a2)] dX3_number_42 (by decide) (zf_r (zf_i (zf_i zf_0))) rfl ?_
        refine g_aload_n dX3_number_43 1 rfl ?_
        refine g_cVAn [] (fun g0 m0 e0 => ok_X3_next (xl X) g m a0 g0 m0 e0) zc3 (by decide) (lw_V q419 q421 qs2 q127 q422) rfl hy_X3_next rfl ⟨by decide, by decide⟩ rfl zc_0 (by decide) dX3_number_44 h (fun g6 m7 h => ?_)
        refine g_iload_n dX3_number_47 0 rfl ?_
        refine g_iret dX3_number_48 hxt ?_
        have e := Option.some.inj h
        have e := hl3 _ e.symm
        exact Kret _ _ _ e
      · have h := zite_n h c
        refine zG.sub [0] rfl ?_
        have e := Option.some.inj h
        exact K3 e.symm
  · have h := zite_n h c
    refine g_aload_n dX3_number_10 0 rfl ?_
    refine g_iconst (v := (1 : Int32)) dX3_number_11 (by decide) ?_
    refine g_cVAv (rv := fun x : Option Nat => va_rf x) [.int (1 : Int32)] (fun x0 g0 m0 e0 => ok_X3_wrong (xl X) g m a0 (1 : Int32) x0 g0 m0 e0) zc3 (by decide) (lw_V q488 q490 qs4 q127 q491) rfl hy_X3_wrong rfl ⟨by decide, by decide⟩ rfl zc_0 (by decide) dX3_number_12 h (fun r12 g13 m14 h => ?_)
    refine g_athrow dX3_number_15 h (fun q15 hk6 h => ?_)
    refine g_out ?_ hk6
    have e := Option.some.inj h
    exact Kthr _ _ _ e
/-! QuiverKin$Tokens.want -/
def f_X3_want (g : zGd) (m : zMm) (a0 : Option Nat) (a1 : Int32) : Option (((Unit) × zGd × zMm) ⊕ (Nat × zGd × zMm)) :=
(zgi g m 3 4 a0).bind fun v1 =>
if v1 = a1 then ((zrc g 3 a0 (f_X3_next g m a0)).bind fun (g2, m3) =>
some (.inl ((), g2, m3)))
else ((zrc g 3 a0 (f_X3_wrong g m a0 (1 : Int32))).bind fun (r4, g5, m6) =>
(zthr g5 r4).bind fun q7 =>
some (.inr (q7, g5, m6)))
theorem hy_X3_want : zHy yX3_want 1 := ⟨by decide, by decide, by decide +kernel⟩
set_option maxHeartbeats 4000000 in
theorem ok_X3_want (l : Launch) (g : zGd) (m : zMm) (a0 : Option Nat) (a1 : Int32) (r0 : ((Unit) × zGd × zMm) ⊕ (Nat × zGd × zMm)) (h : f_X3_want g m a0 a1 = some r0) : zCTX l yX3_want cX3_want 2 none 7 149 g m [va_rf a0, .int a1] (fun _ : Unit => none) r0 := by
  unfold zCTX
  refine zXT.of (own := "QuiverKin$Tokens") (mn := "want") (by decide +kernel) rfl rfl (zla_r (zla_i zla_0)) (zls_r (zls_i zls_0)) (by decide) (fun X hxl hxg hxf hxt hxr hxn => ?_)
  have Kret : ∀ (g1 : zGd) (m1 : zMm), .inl ((), g1, m1) = r0 → zRe X g1 m1 none := by
    intro g1 m1 e; cases e; exact ⟨hxf, hxr, hxn⟩
  have Kthr : ∀ (q : Nat) (g1 : zGd) (m1 : zMm), .inr (q, g1, m1) = r0 → zRt X g1 m1 q := by
    intro q g1 m1 e; cases e; exact ⟨hxf, hxr, hxn⟩
  subst hxl
  show zG X cX3_want 2 "QuiverKin$Tokens" "want" 7 149 0 [(0, va_rf a0), (1, .int a1)] [] g m
  unfold f_X3_want at h
  refine g_aload_n dX3_want_0 0 rfl ?_
  refine gf_i zfd_3_4 q346  (fun _ h9 => h9) dX3_want_1 h (fun v1 h => ?_)
  refine g_iload_n dX3_want_4 1 rfl ?_
  refine g_icmp_eq 14 dX3_want_5 (by decide) (fun c => ?_) (fun c => ?_)
  · have h := zite_p h c
    refine g_aload_n dX3_want_14 0 rfl ?_
    refine g_cVAn [] (fun g0 m0 e0 => ok_X3_next (xl X) g m a0 g0 m0 e0) zc3 (by decide) (lw_V q419 q421 qs2 q127 q422) rfl hy_X3_next rfl ⟨by decide, by decide⟩ rfl zc_0 (by decide) dX3_want_15 h (fun g2 m3 h => ?_)
    refine g_vret dX3_want_18 hxt ?_
    have e := Option.some.inj h
    exact Kret _ _ e
  · have h := zite_n h c
    refine g_aload_n dX3_want_8 0 rfl ?_
    refine g_iconst (v := (1 : Int32)) dX3_want_9 (by decide) ?_
    refine g_cVAv (rv := fun x : Option Nat => va_rf x) [.int (1 : Int32)] (fun x0 g0 m0 e0 => ok_X3_wrong (xl X) g m a0 (1 : Int32) x0 g0 m0 e0) zc3 (by decide) (lw_V q488 q490 qs4 q127 q491) rfl hy_X3_wrong rfl ⟨by decide, by decide⟩ rfl zc_0 (by decide) dX3_want_10 h (fun r4 g5 m6 h => ?_)
    refine g_athrow dX3_want_13 h (fun q7 hk6 h => ?_)
    refine g_out ?_ hk6
    have e := Option.some.inj h
    exact Kthr _ _ _ e
/-! QuiverKin$Tokens.two -/
def f_X3_two (g : zGd) (m : zMm) (a0 : Option Nat) (a1 : Int32) (a2 : Int32) (a3 : Int32) (a4 : Int32) (a5 : Int32) : Option (((Option Nat) × zGd × zMm) ⊕ (Nat × zGd × zMm)) :=
zXd g 3 a0 (f_X3_number g m a0 (0 : Int32) a1) (fun (q4, g5, m6) => some (.inr (q4, g5, m6))) fun (v1, g2, m3) =>
zXd g2 3 a0 (f_X3_want g2 m3 a0 a2) (fun (q9, g10, m11) => some (.inr (q9, g10, m11))) fun (_, g7, m8) =>
zlt (znewo g7 m8 16) fun (g12, m13) =>
zlt (some (zZ g7)) fun r14 =>
(zgi g12 m13 3 7 a0).bind fun v15 =>
zXd g12 3 a0 (f_X3_number g12 m13 a0 a3 a4) (fun (q19, g20, m21) => some (.inr (q19, g20, m21))) fun (v16, g17, m18) =>
zob r14 ((f_X16_init g17 m18 r14 v15 v1 v16 a5).bind fun m22 =>
some (.inl (r14, g17, m22)))
theorem hy_X3_two : zHy yX3_two 5 := ⟨by decide, by decide, by decide +kernel⟩
set_option maxHeartbeats 4000000 in
theorem ok_X3_two (l : Launch) (g : zGd) (m : zMm) (a0 : Option Nat) (a1 : Int32) (a2 : Int32) (a3 : Int32) (a4 : Int32) (a5 : Int32) (r0 : ((Option Nat) × zGd × zMm) ⊕ (Nat × zGd × zMm)) (h : f_X3_two g m a0 a1 a2 a3 a4 a5 = some r0) : zCTX l yX3_two cX3_two 7 (some (.object "QuiverKin$Doing")) 8 172 g m [va_rf a0, .int a1, .int a2, .int a3, .int a4, .int a5] (fun x : Option Nat => some (va_rf x)) r0 := by
  unfold zCTX
  refine zXT.of (own := "QuiverKin$Tokens") (mn := "two") (by decide +kernel) rfl rfl (zla_r (zla_i (zla_i (zla_i (zla_i (zla_i zla_0)))))) (zls_r (zls_i (zls_i (zls_i (zls_i (zls_i zls_0)))))) (by decide) (fun X hxl hxg hxf hxt hxr hxn => ?_)
  have Kret : ∀ (x : Option Nat) (g1 : zGd) (m1 : zMm), .inl (x, g1, m1) = r0 → zRe X g1 m1 (some (va_rf x)) := by
    intro x g1 m1 e; cases e; exact ⟨hxf, hxr, hxn⟩
  have Kthr : ∀ (q : Nat) (g1 : zGd) (m1 : zMm), .inr (q, g1, m1) = r0 → zRt X g1 m1 q := by
    intro q g1 m1 e; cases e; exact ⟨hxf, hxr, hxn⟩
  subst hxl
  show zG X cX3_two 7 "QuiverKin$Tokens" "two" 8 172 0 [(0, va_rf a0), (1, .int a1), (2, .int a2), (3, .int a3), (4, .int a4), (5, .int a5)] [] g m
  unfold f_X3_two at h
  refine g_aload_n dX3_two_0 0 rfl ?_
  refine g_iconst (v := (0 : Int32)) dX3_two_1 (by decide) ?_
  refine g_iload_n dX3_two_2 1 rfl ?_
  refine g_xVv (rv := fun x : Int32 => Value.int x) [.int (0 : Int32), .int a1] (fun r0 e0 => ok_X3_number (xl X) g m a0 (0 : Int32) a1 r0 e0) zc3 (by decide) (lw_V q572 q574 qs9 q127 q575) rfl hy_X3_number rfl ⟨by decide, by decide⟩ rfl zc_0 (by decide) dX3_two_3 h (fun v1 g2 m3 h => ?_) (fun q4 g5 m6 hk6 h => ?_)
  rotate_left 1
  · refine g_out ?_ hk6
    have e := Option.some.inj h
    exact Kthr _ _ _ e
  refine g_istore [(6, .int v1), (0, va_rf a0), (1, .int a1), (2, .int a2), (3, .int a3), (4, .int a4), (5, .int a5)] dX3_two_6 (by decide) (zf_r (zf_i (zf_i (zf_i (zf_i (zf_i zf_0)))))) rfl ?_
  refine g_aload_n dX3_two_8 1 rfl ?_
  refine g_iload_n dX3_two_9 3 rfl ?_
  refine g_xVn [.int a2] (fun r0 e0 => ok_X3_want (xl X) g2 m3 a0 a2 r0 e0) zc3 (by decide) (lw_V q727 q729 qs18 q127 q730) rfl hy_X3_want rfl ⟨by decide, by decide⟩ rfl zc_0 (by decide) dX3_two_10 h (fun _ g7 m8 h => ?_) (fun q9 g10 m11 hk6 h => ?_)
  rotate_left 1
  · refine g_out ?_ hk6
    have e := Option.some.inj h
    exact Kthr _ _ _ e
  refine gn_new znd_16 q854 dX3_two_13 h (fun g12 m13 h => ?_)
  refine g_letr h (fun r14 h => ?_)
  refine g_dup dX3_two_16 (zcat_r _) ?_
  refine g_aload_n dX3_two_17 1 rfl ?_
  refine gf_i zfd_3_7 q349  (fun _ h9 => h9) dX3_two_18 h (fun v15 h => ?_)
  refine g_iload dX3_two_21 0 rfl ?_
  refine g_aload_n dX3_two_23 1 rfl ?_
  refine g_iload_n dX3_two_24 4 rfl ?_
  refine g_iload dX3_two_25 5 rfl ?_
  refine g_xVv (rv := fun x : Int32 => Value.int x) [.int a3, .int a4] (fun r0 e0 => ok_X3_number (xl X) g12 m13 a0 a3 a4 r0 e0) zc3 (by decide) (lw_V q572 q574 qs9 q127 q575) rfl hy_X3_number rfl ⟨by decide, by decide⟩ rfl (zc_i (zc_i (zc_r (zc_r zc_0)))) (by decide) dX3_two_27 h (fun v16 g17 m18 h => ?_) (fun q19 g20 m21 hk6 h => ?_)
  rotate_left 1
  · refine g_out ?_ hk6
    have e := Option.some.inj h
    exact Kthr _ _ _ e
  refine g_iload dX3_two_30 6 rfl ?_
  obtain ⟨hs, h⟩ := zob_e h
  refine g_cINMn [.int v15, .int v1, .int v16, .int a5] (fun m0 e0 => ok_X16_init (xl X) g17 m18 r14 v15 v1 v16 a5 m0 e0) (lw_meth q858) q157 q856 q857 rfl hy_X16_init rfl ⟨by decide, by decide⟩ rfl (zc_r zc_0) (by decide) hs dX3_two_32 h (fun m22 h => ?_)
  refine g_aret dX3_two_35 hxt (by first | exact Or.inl ⟨_, rfl⟩ | exact Or.inr ⟨_, rfl⟩) ?_
  have e := Option.some.inj h
  exact Kret _ _ _ e
/-! QuiverKin$Tokens.doing -/
def f_X3_doing (g : zGd) (m : zMm) (a0 : Option Nat) (a1 : Int32) : Option (((Option Nat) × zGd × zMm) ⊕ (Nat × zGd × zMm)) :=
(zgi g m 3 7 a0).bind fun v1 =>
if v1 = (202 : Int32) then (zXd g 3 a0 (f_X3_two g m a0 (9 : Int32) (208 : Int32) (0 : Int32) (99 : Int32) a1) (fun (q5, g6, m7) => some (.inr (q5, g6, m7))) fun (r2, g3, m4) =>
some (.inl (r2, g3, m4)))
else if v1 = (204 : Int32) then (zXd g 3 a0 (f_X3_two g m a0 (5 : Int32) (209 : Int32) (1 : Int32) (99 : Int32) a1) (fun (q11, g12, m13) => some (.inr (q11, g12, m13))) fun (r8, g9, m10) =>
some (.inl (r8, g9, m10)))
else if v1 = (206 : Int32) then (zXd g 3 a0 (f_X3_two g m a0 (5 : Int32) (210 : Int32) (0 : Int32) (5 : Int32) a1) (fun (q17, g18, m19) => some (.inr (q17, g18, m19))) fun (r14, g15, m16) =>
some (.inl (r14, g15, m16)))
else if v1 = (207 : Int32) then (zlt (znewo g m 16) fun (g20, m21) =>
zlt (some (zZ g)) fun r22 =>
(zgi g20 m21 3 7 a0).bind fun v23 =>
zXd g20 3 a0 (f_X3_number g20 m21 a0 (1 : Int32) (60 : Int32)) (fun (q27, g28, m29) => some (.inr (q27, g28, m29))) fun (v24, g25, m26) =>
zob r22 ((f_X16_init g25 m26 r22 v23 v24 (-1 : Int32) a1).bind fun m30 =>
some (.inl (r22, g25, m30))))
else (zlt (znewo g m 16) fun (g31, m32) =>
zlt (some (zZ g)) fun r33 =>
(zgi g31 m32 3 7 a0).bind fun v34 =>
zXd g31 3 a0 (f_X3_number g31 m32 a0 (0 : Int32) (5 : Int32)) (fun (q38, g39, m40) => some (.inr (q38, g39, m40))) fun (v35, g36, m37) =>
zob r33 ((f_X16_init g36 m37 r33 v34 v35 (-1 : Int32) a1).bind fun m41 =>
some (.inl (r33, g36, m41))))
theorem hy_X3_doing : zHy yX3_doing 1 := ⟨by decide, by decide, by decide +kernel⟩
set_option maxHeartbeats 4000000 in
theorem ok_X3_doing (l : Launch) (g : zGd) (m : zMm) (a0 : Option Nat) (a1 : Int32) (r0 : ((Option Nat) × zGd × zMm) ⊕ (Nat × zGd × zMm)) (h : f_X3_doing g m a0 a1 = some r0) : zCTX l yX3_doing cX3_doing 2 (some (.object "QuiverKin$Doing")) 9 198 g m [va_rf a0, .int a1] (fun x : Option Nat => some (va_rf x)) r0 := by
  unfold zCTX
  refine zXT.of (own := "QuiverKin$Tokens") (mn := "doing") (by decide +kernel) rfl rfl (zla_r (zla_i zla_0)) (zls_r (zls_i zls_0)) (by decide) (fun X hxl hxg hxf hxt hxr hxn => ?_)
  have Kret : ∀ (x : Option Nat) (g1 : zGd) (m1 : zMm), .inl (x, g1, m1) = r0 → zRe X g1 m1 (some (va_rf x)) := by
    intro x g1 m1 e; cases e; exact ⟨hxf, hxr, hxn⟩
  have Kthr : ∀ (q : Nat) (g1 : zGd) (m1 : zMm), .inr (q, g1, m1) = r0 → zRt X g1 m1 q := by
    intro q g1 m1 e; cases e; exact ⟨hxf, hxr, hxn⟩
  subst hxl
  show zG X cX3_doing 2 "QuiverKin$Tokens" "doing" 9 198 0 [(0, va_rf a0), (1, .int a1)] [] g m
  unfold f_X3_doing at h
  refine g_aload_n dX3_doing_0 0 rfl ?_
  refine gf_i zfd_3_7 q349  (fun _ h9 => h9) dX3_doing_1 h (fun v1 h => ?_)
  rcases Decidable.em (v1 = (202 : Int32)) with c | c202
  · have h := zite_p h c
    refine g_tsw (v := (202 : Int32)) (off := 40) 44 dX3_doing_4 c (by decide) (by decide) (by decide) (by decide) ?_
    refine g_aload_n dX3_doing_44 0 rfl ?_
    refine g_bipush (v := (9 : Int32)) dX3_doing_45 (by decide) ?_
    refine g_sipush (v := (208 : Int32)) dX3_doing_47 (by decide) ?_
    refine g_iconst (v := (0 : Int32)) dX3_doing_50 (by decide) ?_
    refine g_bipush (v := (99 : Int32)) dX3_doing_51 (by decide) ?_
    refine g_iload_n dX3_doing_53 1 rfl ?_
    refine g_xVv (rv := fun x : Option Nat => va_rf x) [.int (9 : Int32), .int (208 : Int32), .int (0 : Int32), .int (99 : Int32), .int a1] (fun r0 e0 => ok_X3_two (xl X) g m a0 (9 : Int32) (208 : Int32) (0 : Int32) (99 : Int32) a1 r0 e0) zc3 (by decide) (lw_V q850 q852 qs22 q127 q853) rfl hy_X3_two rfl ⟨by decide, by decide⟩ rfl zc_0 (by decide) dX3_doing_54 h (fun r2 g3 m4 h => ?_) (fun q5 g6 m7 hk6 h => ?_)
    rotate_left 1
    · refine g_out ?_ hk6
      have e := Option.some.inj h
      exact Kthr _ _ _ e
    refine g_aret dX3_doing_57 hxt (by first | exact Or.inl ⟨_, rfl⟩ | exact Or.inr ⟨_, rfl⟩) ?_
    have e := Option.some.inj h
    exact Kret _ _ _ e
  have h := zite_n h c202
  rcases Decidable.em (v1 = (204 : Int32)) with c | c204
  · have h := zite_p h c
    refine g_tsw (v := (204 : Int32)) (off := 54) 58 dX3_doing_4 c (by decide) (by decide) (by decide) (by decide) ?_
    refine g_aload_n dX3_doing_58 0 rfl ?_
    refine g_iconst (v := (5 : Int32)) dX3_doing_59 (by decide) ?_
    refine g_sipush (v := (209 : Int32)) dX3_doing_60 (by decide) ?_
    refine g_iconst (v := (1 : Int32)) dX3_doing_63 (by decide) ?_
    refine g_bipush (v := (99 : Int32)) dX3_doing_64 (by decide) ?_
    refine g_iload_n dX3_doing_66 1 rfl ?_
    refine g_xVv (rv := fun x : Option Nat => va_rf x) [.int (5 : Int32), .int (209 : Int32), .int (1 : Int32), .int (99 : Int32), .int a1] (fun r0 e0 => ok_X3_two (xl X) g m a0 (5 : Int32) (209 : Int32) (1 : Int32) (99 : Int32) a1 r0 e0) zc3 (by decide) (lw_V q850 q852 qs22 q127 q853) rfl hy_X3_two rfl ⟨by decide, by decide⟩ rfl zc_0 (by decide) dX3_doing_67 h (fun r8 g9 m10 h => ?_) (fun q11 g12 m13 hk6 h => ?_)
    rotate_left 1
    · refine g_out ?_ hk6
      have e := Option.some.inj h
      exact Kthr _ _ _ e
    refine g_aret dX3_doing_70 hxt (by first | exact Or.inl ⟨_, rfl⟩ | exact Or.inr ⟨_, rfl⟩) ?_
    have e := Option.some.inj h
    exact Kret _ _ _ e
  have h := zite_n h c204
  rcases Decidable.em (v1 = (206 : Int32)) with c | c206
  · have h := zite_p h c
    refine g_tsw (v := (206 : Int32)) (off := 67) 71 dX3_doing_4 c (by decide) (by decide) (by decide) (by decide) ?_
    refine g_aload_n dX3_doing_71 0 rfl ?_
    refine g_iconst (v := (5 : Int32)) dX3_doing_72 (by decide) ?_
    refine g_sipush (v := (210 : Int32)) dX3_doing_73 (by decide) ?_
    refine g_iconst (v := (0 : Int32)) dX3_doing_76 (by decide) ?_
    refine g_iconst (v := (5 : Int32)) dX3_doing_77 (by decide) ?_
    refine g_iload_n dX3_doing_78 1 rfl ?_
    refine g_xVv (rv := fun x : Option Nat => va_rf x) [.int (5 : Int32), .int (210 : Int32), .int (0 : Int32), .int (5 : Int32), .int a1] (fun r0 e0 => ok_X3_two (xl X) g m a0 (5 : Int32) (210 : Int32) (0 : Int32) (5 : Int32) a1 r0 e0) zc3 (by decide) (lw_V q850 q852 qs22 q127 q853) rfl hy_X3_two rfl ⟨by decide, by decide⟩ rfl zc_0 (by decide) dX3_doing_79 h (fun r14 g15 m16 h => ?_) (fun q17 g18 m19 hk6 h => ?_)
    rotate_left 1
    · refine g_out ?_ hk6
      have e := Option.some.inj h
      exact Kthr _ _ _ e
    refine g_aret dX3_doing_82 hxt (by first | exact Or.inl ⟨_, rfl⟩ | exact Or.inr ⟨_, rfl⟩) ?_
    have e := Option.some.inj h
    exact Kret _ _ _ e
  have h := zite_n h c206
  rcases Decidable.em (v1 = (207 : Int32)) with c | c207
  · have h := zite_p h c
    refine g_tsw (v := (207 : Int32)) (off := 79) 83 dX3_doing_4 c (by decide) (by decide) (by decide) (by decide) ?_
    refine gn_new znd_16 q854 dX3_doing_83 h (fun g20 m21 h => ?_)
    refine g_letr h (fun r22 h => ?_)
    refine g_dup dX3_doing_86 (zcat_r _) ?_
    refine g_aload_n dX3_doing_87 0 rfl ?_
    refine gf_i zfd_3_7 q349  (fun _ h9 => h9) dX3_doing_88 h (fun v23 h => ?_)
    refine g_aload_n dX3_doing_91 0 rfl ?_
    refine g_iconst (v := (1 : Int32)) dX3_doing_92 (by decide) ?_
    refine g_bipush (v := (60 : Int32)) dX3_doing_93 (by decide) ?_
    refine g_xVv (rv := fun x : Int32 => Value.int x) [.int (1 : Int32), .int (60 : Int32)] (fun r0 e0 => ok_X3_number (xl X) g20 m21 a0 (1 : Int32) (60 : Int32) r0 e0) zc3 (by decide) (lw_V q572 q574 qs9 q127 q575) rfl hy_X3_number rfl ⟨by decide, by decide⟩ rfl (zc_i (zc_r (zc_r zc_0))) (by decide) dX3_doing_95 h (fun v24 g25 m26 h => ?_) (fun q27 g28 m29 hk6 h => ?_)
    rotate_left 1
    · refine g_out ?_ hk6
      have e := Option.some.inj h
      exact Kthr _ _ _ e
    refine g_iconst (v := (-1 : Int32)) dX3_doing_98 (by decide) ?_
    refine g_iload_n dX3_doing_99 1 rfl ?_
    obtain ⟨hs, h⟩ := zob_e h
    refine g_cINMn [.int v23, .int v24, .int (-1 : Int32), .int a1] (fun m0 e0 => ok_X16_init (xl X) g25 m26 r22 v23 v24 (-1 : Int32) a1 m0 e0) (lw_meth q858) q157 q856 q857 rfl hy_X16_init rfl ⟨by decide, by decide⟩ rfl (zc_r zc_0) (by decide) hs dX3_doing_100 h (fun m30 h => ?_)
    refine g_aret dX3_doing_103 hxt (by first | exact Or.inl ⟨_, rfl⟩ | exact Or.inr ⟨_, rfl⟩) ?_
    have e := Option.some.inj h
    exact Kret _ _ _ e
  have h := zite_n h c207
  refine g_tswG (n := 6) (vs := [(202 : Int32), (204 : Int32), (206 : Int32), (207 : Int32)]) 104 dX3_doing_4 (List.forall_mem_cons.mpr ⟨c202, List.forall_mem_cons.mpr ⟨c204, List.forall_mem_cons.mpr ⟨c206, List.forall_mem_cons.mpr ⟨c207, fun _ h9 => absurd h9 List.not_mem_nil⟩⟩⟩⟩) (by decide) (by decide) (by decide) ?_
  refine gn_new znd_16 q854 dX3_doing_104 h (fun g31 m32 h => ?_)
  refine g_letr h (fun r33 h => ?_)
  refine g_dup dX3_doing_107 (zcat_r _) ?_
  refine g_aload_n dX3_doing_108 0 rfl ?_
  refine gf_i zfd_3_7 q349  (fun _ h9 => h9) dX3_doing_109 h (fun v34 h => ?_)
  refine g_aload_n dX3_doing_112 0 rfl ?_
  refine g_iconst (v := (0 : Int32)) dX3_doing_113 (by decide) ?_
  refine g_iconst (v := (5 : Int32)) dX3_doing_114 (by decide) ?_
  refine g_xVv (rv := fun x : Int32 => Value.int x) [.int (0 : Int32), .int (5 : Int32)] (fun r0 e0 => ok_X3_number (xl X) g31 m32 a0 (0 : Int32) (5 : Int32) r0 e0) zc3 (by decide) (lw_V q572 q574 qs9 q127 q575) rfl hy_X3_number rfl ⟨by decide, by decide⟩ rfl (zc_i (zc_r (zc_r zc_0))) (by decide) dX3_doing_115 h (fun v35 g36 m37 h => ?_) (fun q38 g39 m40 hk6 h => ?_)
  rotate_left 1
  · refine g_out ?_ hk6
    have e := Option.some.inj h
    exact Kthr _ _ _ e
  refine g_iconst (v := (-1 : Int32)) dX3_doing_118 (by decide) ?_
  refine g_iload_n dX3_doing_119 1 rfl ?_
  obtain ⟨hs, h⟩ := zob_e h
  refine g_cINMn [.int v34, .int v35, .int (-1 : Int32), .int a1] (fun m0 e0 => ok_X16_init (xl X) g36 m37 r33 v34 v35 (-1 : Int32) a1 m0 e0) (lw_meth q858) q157 q856 q857 rfl hy_X16_init rfl ⟨by decide, by decide⟩ rfl (zc_r zc_0) (by decide) hs dX3_doing_120 h (fun m41 h => ?_)
  refine g_aret dX3_doing_123 hxt (by first | exact Or.inl ⟨_, rfl⟩ | exact Or.inr ⟨_, rfl⟩) ?_
  have e := Option.some.inj h
  exact Kret _ _ _ e
/-! QuiverKin$Compared.<init> -/
def f_X9_init (g : zGd) (m : zMm) (a0 : Option Nat) (a1 : Int32) (a2 : Option Nat) (a3 : Option Nat) : Option (zMm) :=
zob a0 ((f_J10_init g m a0).bind fun _ =>
(zpi g m 9 0 a0 a1).bind fun m1 =>
(zpr g m1 9 1 a0 a2).bind fun m2 =>
(zpr g m2 9 2 a0 a3).bind fun m3 =>
some (m3))
theorem hy_X9_init : zHy yX9_init 3 := ⟨by decide, by decide, by decide +kernel⟩
set_option maxHeartbeats 4000000 in
theorem ok_X9_init (l : Launch) (g : zGd) (m : zMm) (a0 : Option Nat) (a1 : Int32) (a2 : Option Nat) (a3 : Option Nat) (m0 : zMm) (h : f_X9_init g m a0 a1 a2 a3 = some m0) : zCT l yX9_init cX9_init 4 none 2 40 g m [va_rf a0, .int a1, va_rf a2, va_rf a3] none g m0 := by
  refine zCT.of (own := "QuiverKin$Compared") (mn := "<init>") (by decide +kernel) rfl rfl (zla_r (zla_i (zla_r (zla_r zla_0)))) (zls_r (zls_i (zls_r (zls_r zls_0)))) (by decide) (fun X hxl hxg hxf hxt hxr hxn => ?_)
  have Kret : ∀ (y0 : zMm), y0 = m0 → zRe X g y0 none := by
    intro y0 e; cases e; exact ⟨hxf, hxr, hxn⟩
  subst hxl
  show zG X cX9_init 4 "QuiverKin$Compared" "<init>" 2 40 0 [(0, va_rf a0), (1, .int a1), (2, va_rf a2), (3, va_rf a3)] [] g m
  unfold f_X9_init at h
  refine g_aload_n dX9_init_0 0 rfl ?_
  obtain ⟨hs, h⟩ := zob_e h
  refine g_cIRn [] (fun x0 e0 => ok_J10_init (xl X) g m a0 x0 e0) (lw_meth q581) q141 q624 q580 rfl hy_J10_init rfl ⟨by decide, by decide⟩ rfl zc_0 (by decide) hs dX9_init_1 h (fun _ h => ?_)
  refine g_aload_n dX9_init_4 0 rfl ?_
  refine g_iload_n dX9_init_5 1 rfl ?_
  refine gp_iF zpd_9_0 q625 (fun _ h9 => h9) rfl rfl dX9_init_6 h (fun m1 h => ?_)
  refine g_aload_n dX9_init_9 0 rfl ?_
  refine g_aload_n dX9_init_10 2 rfl ?_
  refine gp_rF zpd_9_1 q626 (fun _ h9 => h9) rfl rfl dX9_init_11 h (fun m2 h => ?_)
  refine g_aload_n dX9_init_14 0 rfl ?_
  refine g_aload_n dX9_init_15 3 rfl ?_
  refine gp_rF zpd_9_2 q627 (fun _ h9 => h9) rfl rfl dX9_init_16 h (fun m3 h => ?_)
  refine g_vret dX9_init_19 hxt ?_
  have e := Option.some.inj h
  exact Kret _ e
/-! QuiverKin$Not.<init> -/
def f_X8_init (g : zGd) (m : zMm) (a0 : Option Nat) (a1 : Option Nat) : Option (zMm) :=
zob a0 ((f_J10_init g m a0).bind fun _ =>
(zpr g m 8 0 a0 a1).bind fun m1 =>
some (m1))
theorem hy_X8_init : zHy yX8_init 1 := ⟨by decide, by decide, by decide +kernel⟩
set_option maxHeartbeats 4000000 in
theorem ok_X8_init (l : Launch) (g : zGd) (m : zMm) (a0 : Option Nat) (a1 : Option Nat) (m0 : zMm) (h : f_X8_init g m a0 a1 = some m0) : zCT l yX8_init cX8_init 2 none 2 40 g m [va_rf a0, va_rf a1] none g m0 := by
  refine zCT.of (own := "QuiverKin$Not") (mn := "<init>") (by decide +kernel) rfl rfl (zla_r (zla_r zla_0)) (zls_r (zls_r zls_0)) (by decide) (fun X hxl hxg hxf hxt hxr hxn => ?_)
  have Kret : ∀ (y0 : zMm), y0 = m0 → zRe X g y0 none := by
    intro y0 e; cases e; exact ⟨hxf, hxr, hxn⟩
  subst hxl
  show zG X cX8_init 2 "QuiverKin$Not" "<init>" 2 40 0 [(0, va_rf a0), (1, va_rf a1)] [] g m
  unfold f_X8_init at h
  refine g_aload_n dX8_init_0 0 rfl ?_
  obtain ⟨hs, h⟩ := zob_e h
  refine g_cIRn [] (fun x0 e0 => ok_J10_init (xl X) g m a0 x0 e0) (lw_meth q581) q141 q614 q580 rfl hy_J10_init rfl ⟨by decide, by decide⟩ rfl zc_0 (by decide) hs dX8_init_1 h (fun _ h => ?_)
  refine g_aload_n dX8_init_4 0 rfl ?_
  refine g_aload_n dX8_init_5 1 rfl ?_
  refine gp_rF zpd_8_0 q615 (fun _ h9 => h9) rfl rfl dX8_init_6 h (fun m1 h => ?_)
  refine g_vret dX8_init_9 hxt ?_
  have e := Option.some.inj h
  exact Kret _ e
/-! QuiverKin$Tokens.opens -/
def f_X3_opens (g : zGd) (m : zMm) (a0 : Option Nat) : Option (((Unit) × zGd × zMm) ⊕ (Nat × zGd × zMm)) :=
(zgi g m 3 6 a0).bind fun v1 =>
if v1 = (8 : Int32) then ((zrc g 3 a0 (f_X3_wrong g m a0 (3 : Int32))).bind fun (r6, g7, m8) =>
(zthr g7 r6).bind fun q9 =>
some (.inr (q9, g7, m8)))
else ((zgi g m 3 6 a0).bind fun v2 =>
(zpi g m 3 6 a0 (v2 + (1 : Int32))).bind fun m3 =>
(zrc g 3 a0 (f_X3_next g m3 a0)).bind fun (g4, m5) =>
some (.inl ((), g4, m5)))
theorem hy_X3_opens : zHy yX3_opens 0 := ⟨by decide, by decide, by decide +kernel⟩
set_option maxHeartbeats 4000000 in
theorem ok_X3_opens (l : Launch) (g : zGd) (m : zMm) (a0 : Option Nat) (r0 : ((Unit) × zGd × zMm) ⊕ (Nat × zGd × zMm)) (h : f_X3_opens g m a0 = some r0) : zCTX l yX3_opens cX3_opens 1 none 7 149 g m [va_rf a0] (fun _ : Unit => none) r0 := by
  unfold zCTX
  refine zXT.of (own := "QuiverKin$Tokens") (mn := "opens") (by decide +kernel) rfl rfl (zla_r zla_0) (zls_r zls_0) (by decide) (fun X hxl hxg hxf hxt hxr hxn => ?_)
  have Kret : ∀ (g1 : zGd) (m1 : zMm), .inl ((), g1, m1) = r0 → zRe X g1 m1 none := by
    intro g1 m1 e; cases e; exact ⟨hxf, hxr, hxn⟩
  have Kthr : ∀ (q : Nat) (g1 : zGd) (m1 : zMm), .inr (q, g1, m1) = r0 → zRt X g1 m1 q := by
    intro q g1 m1 e; cases e; exact ⟨hxf, hxr, hxn⟩
  subst hxl
  show zG X cX3_opens 1 "QuiverKin$Tokens" "opens" 7 149 0 [(0, va_rf a0)] [] g m
  unfold f_X3_opens at h
  refine g_aload_n dX3_opens_0 0 rfl ?_
  refine gf_i zfd_3_6 q348  (fun _ h9 => h9) dX3_opens_1 h (fun v1 h => ?_)
  refine g_bipush (v := (8 : Int32)) dX3_opens_4 (by decide) ?_
  refine g_icmp_ne 15 dX3_opens_6 (by decide) (fun c => ?_) (fun c => ?_)
  · have h := zite_n h c
    refine g_aload_n dX3_opens_15 0 rfl ?_
    refine g_dup dX3_opens_16 (zcat_r _) ?_
    refine gf_i zfd_3_6 q348  (fun _ h9 => h9) dX3_opens_17 h (fun v2 h => ?_)
    refine g_iconst (v := (1 : Int32)) dX3_opens_20 (by decide) ?_
    refine g_iadd dX3_opens_21 ?_
    refine gp_i zpd_3_6 q348 (fun _ h9 => h9) dX3_opens_22 h (fun m3 h => ?_)
    refine g_aload_n dX3_opens_25 0 rfl ?_
    refine g_cVAn [] (fun g0 m0 e0 => ok_X3_next (xl X) g m3 a0 g0 m0 e0) zc3 (by decide) (lw_V q419 q421 qs2 q127 q422) rfl hy_X3_next rfl ⟨by decide, by decide⟩ rfl zc_0 (by decide) dX3_opens_26 h (fun g4 m5 h => ?_)
    refine g_vret dX3_opens_29 hxt ?_
    have e := Option.some.inj h
    exact Kret _ _ e
  · have h := zite_p h c
    refine g_aload_n dX3_opens_9 0 rfl ?_
    refine g_iconst (v := (3 : Int32)) dX3_opens_10 (by decide) ?_
    refine g_cVAv (rv := fun x : Option Nat => va_rf x) [.int (3 : Int32)] (fun x0 g0 m0 e0 => ok_X3_wrong (xl X) g m a0 (3 : Int32) x0 g0 m0 e0) zc3 (by decide) (lw_V q488 q490 qs4 q127 q491) rfl hy_X3_wrong rfl ⟨by decide, by decide⟩ rfl zc_0 (by decide) dX3_opens_11 h (fun r6 g7 m8 h => ?_)
    refine g_athrow dX3_opens_14 h (fun q9 hk6 h => ?_)
    refine g_out ?_ hk6
    have e := Option.some.inj h
    exact Kthr _ _ _ e
/-! QuiverKin$All.<init> -/
def f_X10_init (g : zGd) (m : zMm) (a0 : Option Nat) (a1 : Int32) (a2 : Option Nat) : Option (zMm) :=
zob a0 ((f_J10_init g m a0).bind fun _ =>
(zpz g m 10 0 a0 a1).bind fun m1 =>
(zpr g m1 10 1 a0 a2).bind fun m2 =>
some (m2))
theorem hy_X10_init : zHy yX10_init 2 := ⟨by decide, by decide, by decide +kernel⟩
set_option maxHeartbeats 4000000 in
theorem ok_X10_init (l : Launch) (g : zGd) (m : zMm) (a0 : Option Nat) (a1 : Int32) (a2 : Option Nat) (m0 : zMm) (h : f_X10_init g m a0 a1 a2 = some m0) : zCT l yX10_init cX10_init 3 none 2 40 g m [va_rf a0, .int a1, va_rf a2] none g m0 := by
  refine zCT.of (own := "QuiverKin$All") (mn := "<init>") (by decide +kernel) rfl rfl (zla_r (zla_i (zla_r zla_0))) (zls_r (zls_i (zls_r zls_0))) (by decide) (fun X hxl hxg hxf hxt hxr hxn => ?_)
  have Kret : ∀ (y0 : zMm), y0 = m0 → zRe X g y0 none := by
    intro y0 e; cases e; exact ⟨hxf, hxr, hxn⟩
  subst hxl
  show zG X cX10_init 3 "QuiverKin$All" "<init>" 2 40 0 [(0, va_rf a0), (1, .int a1), (2, va_rf a2)] [] g m
  unfold f_X10_init at h
  refine g_aload_n dX10_init_0 0 rfl ?_
  obtain ⟨hs, h⟩ := zob_e h
  refine g_cIRn [] (fun x0 e0 => ok_J10_init (xl X) g m a0 x0 e0) (lw_meth q581) q141 q719 q580 rfl hy_J10_init rfl ⟨by decide, by decide⟩ rfl zc_0 (by decide) hs dX10_init_1 h (fun _ h => ?_)
  refine g_aload_n dX10_init_4 0 rfl ?_
  refine g_iload_n dX10_init_5 1 rfl ?_
  refine gp_zF zpd_10_0 q720 (fun _ h9 => h9) rfl rfl dX10_init_6 h (fun m1 h => ?_)
  refine g_aload_n dX10_init_9 0 rfl ?_
  refine g_aload_n dX10_init_10 2 rfl ?_
  refine gp_rF zpd_10_1 q721 (fun _ h9 => h9) rfl rfl dX10_init_11 h (fun m2 h => ?_)
  refine g_vret dX10_init_14 hxt ?_
  have e := Option.some.inj h
  exact Kret _ e
/-! QuiverKin$If.<init> -/
def f_X11_init (g : zGd) (m : zMm) (a0 : Option Nat) (a1 : Option Nat) (a2 : Option Nat) (a3 : Option Nat) : Option (zMm) :=
zob a0 ((f_J10_init g m a0).bind fun _ =>
(zpr g m 11 0 a0 a1).bind fun m1 =>
(zpr g m1 11 1 a0 a2).bind fun m2 =>
(zpr g m2 11 2 a0 a3).bind fun m3 =>
some (m3))
theorem hy_X11_init : zHy yX11_init 3 := ⟨by decide, by decide, by decide +kernel⟩
set_option maxHeartbeats 4000000 in
theorem ok_X11_init (l : Launch) (g : zGd) (m : zMm) (a0 : Option Nat) (a1 : Option Nat) (a2 : Option Nat) (a3 : Option Nat) (m0 : zMm) (h : f_X11_init g m a0 a1 a2 a3 = some m0) : zCT l yX11_init cX11_init 4 none 2 40 g m [va_rf a0, va_rf a1, va_rf a2, va_rf a3] none g m0 := by
  refine zCT.of (own := "QuiverKin$If") (mn := "<init>") (by decide +kernel) rfl rfl (zla_r (zla_r (zla_r (zla_r zla_0)))) (zls_r (zls_r (zls_r (zls_r zls_0)))) (by decide) (fun X hxl hxg hxf hxt hxr hxn => ?_)
  have Kret : ∀ (y0 : zMm), y0 = m0 → zRe X g y0 none := by
    intro y0 e; cases e; exact ⟨hxf, hxr, hxn⟩
  subst hxl
  show zG X cX11_init 4 "QuiverKin$If" "<init>" 2 40 0 [(0, va_rf a0), (1, va_rf a1), (2, va_rf a2), (3, va_rf a3)] [] g m
  unfold f_X11_init at h
  refine g_aload_n dX11_init_0 0 rfl ?_
  obtain ⟨hs, h⟩ := zob_e h
  refine g_cIRn [] (fun x0 e0 => ok_J10_init (xl X) g m a0 x0 e0) (lw_meth q581) q141 q736 q580 rfl hy_J10_init rfl ⟨by decide, by decide⟩ rfl zc_0 (by decide) hs dX11_init_1 h (fun _ h => ?_)
  refine g_aload_n dX11_init_4 0 rfl ?_
  refine g_aload_n dX11_init_5 1 rfl ?_
  refine gp_rF zpd_11_0 q737 (fun _ h9 => h9) rfl rfl dX11_init_6 h (fun m1 h => ?_)
  refine g_aload_n dX11_init_9 0 rfl ?_
  refine g_aload_n dX11_init_10 2 rfl ?_
  refine gp_rF zpd_11_1 q738 (fun _ h9 => h9) rfl rfl dX11_init_11 h (fun m2 h => ?_)
  refine g_aload_n dX11_init_14 0 rfl ?_
  refine g_aload_n dX11_init_15 3 rfl ?_
  refine gp_rF zpd_11_2 q739 (fun _ h9 => h9) rfl rfl dX11_init_16 h (fun m3 h => ?_)
  refine g_vret dX11_init_19 hxt ?_
  have e := Option.some.inj h
  exact Kret _ e
/-! QuiverKin$Across.<init> -/
def f_X13_init (g : zGd) (m : zMm) (a0 : Option Nat) (a1 : Option Nat) : Option (zMm) :=
zob a0 ((f_J10_init g m a0).bind fun _ =>
(zpr g m 13 0 a0 a1).bind fun m1 =>
some (m1))
theorem hy_X13_init : zHy yX13_init 1 := ⟨by decide, by decide, by decide +kernel⟩
set_option maxHeartbeats 4000000 in
theorem ok_X13_init (l : Launch) (g : zGd) (m : zMm) (a0 : Option Nat) (a1 : Option Nat) (m0 : zMm) (h : f_X13_init g m a0 a1 = some m0) : zCT l yX13_init cX13_init 2 none 2 40 g m [va_rf a0, va_rf a1] none g m0 := by
  refine zCT.of (own := "QuiverKin$Across") (mn := "<init>") (by decide +kernel) rfl rfl (zla_r (zla_r zla_0)) (zls_r (zls_r zls_0)) (by decide) (fun X hxl hxg hxf hxt hxr hxn => ?_)
  have Kret : ∀ (y0 : zMm), y0 = m0 → zRe X g y0 none := by
    intro y0 e; cases e; exact ⟨hxf, hxr, hxn⟩
  subst hxl
  show zG X cX13_init 2 "QuiverKin$Across" "<init>" 2 40 0 [(0, va_rf a0), (1, va_rf a1)] [] g m
  unfold f_X13_init at h
  refine g_aload_n dX13_init_0 0 rfl ?_
  obtain ⟨hs, h⟩ := zob_e h
  refine g_cIRn [] (fun x0 e0 => ok_J10_init (xl X) g m a0 x0 e0) (lw_meth q581) q141 q772 q580 rfl hy_J10_init rfl ⟨by decide, by decide⟩ rfl zc_0 (by decide) hs dX13_init_1 h (fun _ h => ?_)
  refine g_aload_n dX13_init_4 0 rfl ?_
  refine g_aload_n dX13_init_5 1 rfl ?_
  refine gp_rF zpd_13_0 q773 (fun _ h9 => h9) rfl rfl dX13_init_6 h (fun m1 h => ?_)
  refine g_vret dX13_init_9 hxt ?_
  have e := Option.some.inj h
  exact Kret _ e
/-! QuiverKin$Minus.<init> -/
def f_X15_init (g : zGd) (m : zMm) (a0 : Option Nat) (a1 : Option Nat) : Option (zMm) :=
zob a0 ((f_J10_init g m a0).bind fun _ =>
(zpr g m 15 0 a0 a1).bind fun m1 =>
some (m1))
theorem hy_X15_init : zHy yX15_init 1 := ⟨by decide, by decide, by decide +kernel⟩
set_option maxHeartbeats 4000000 in
theorem ok_X15_init (l : Launch) (g : zGd) (m : zMm) (a0 : Option Nat) (a1 : Option Nat) (m0 : zMm) (h : f_X15_init g m a0 a1 = some m0) : zCT l yX15_init cX15_init 2 none 2 40 g m [va_rf a0, va_rf a1] none g m0 := by
  refine zCT.of (own := "QuiverKin$Minus") (mn := "<init>") (by decide +kernel) rfl rfl (zla_r (zla_r zla_0)) (zls_r (zls_r zls_0)) (by decide) (fun X hxl hxg hxf hxt hxr hxn => ?_)
  have Kret : ∀ (y0 : zMm), y0 = m0 → zRe X g y0 none := by
    intro y0 e; cases e; exact ⟨hxf, hxr, hxn⟩
  subst hxl
  show zG X cX15_init 2 "QuiverKin$Minus" "<init>" 2 40 0 [(0, va_rf a0), (1, va_rf a1)] [] g m
  unfold f_X15_init at h
  refine g_aload_n dX15_init_0 0 rfl ?_
  obtain ⟨hs, h⟩ := zob_e h
  refine g_cIRn [] (fun x0 e0 => ok_J10_init (xl X) g m a0 x0 e0) (lw_meth q581) q141 q792 q580 rfl hy_J10_init rfl ⟨by decide, by decide⟩ rfl zc_0 (by decide) hs dX15_init_1 h (fun _ h => ?_)
  refine g_aload_n dX15_init_4 0 rfl ?_
  refine g_aload_n dX15_init_5 1 rfl ?_
  refine gp_rF zpd_15_0 q793 (fun _ h9 => h9) rfl rfl dX15_init_6 h (fun m1 h => ?_)
  refine g_vret dX15_init_9 hxt ?_
  have e := Option.some.inj h
  exact Kret _ e
/-! QuiverKin$Name.<init> -/
def f_X12_init (g : zGd) (m : zMm) (a0 : Option Nat) (a1 : Int32) : Option (zMm) :=
zob a0 ((f_J10_init g m a0).bind fun _ =>
(zpi g m 12 0 a0 a1).bind fun m1 =>
some (m1))
theorem hy_X12_init : zHy yX12_init 1 := ⟨by decide, by decide, by decide +kernel⟩
set_option maxHeartbeats 4000000 in
theorem ok_X12_init (l : Launch) (g : zGd) (m : zMm) (a0 : Option Nat) (a1 : Int32) (m0 : zMm) (h : f_X12_init g m a0 a1 = some m0) : zCT l yX12_init cX12_init 2 none 2 40 g m [va_rf a0, .int a1] none g m0 := by
  refine zCT.of (own := "QuiverKin$Name") (mn := "<init>") (by decide +kernel) rfl rfl (zla_r (zla_i zla_0)) (zls_r (zls_i zls_0)) (by decide) (fun X hxl hxg hxf hxt hxr hxn => ?_)
  have Kret : ∀ (y0 : zMm), y0 = m0 → zRe X g y0 none := by
    intro y0 e; cases e; exact ⟨hxf, hxr, hxn⟩
  subst hxl
  show zG X cX12_init 2 "QuiverKin$Name" "<init>" 2 40 0 [(0, va_rf a0), (1, .int a1)] [] g m
  unfold f_X12_init at h
  refine g_aload_n dX12_init_0 0 rfl ?_
  obtain ⟨hs, h⟩ := zob_e h
  refine g_cIRn [] (fun x0 e0 => ok_J10_init (xl X) g m a0 x0 e0) (lw_meth q581) q141 q762 q580 rfl hy_J10_init rfl ⟨by decide, by decide⟩ rfl zc_0 (by decide) hs dX12_init_1 h (fun _ h => ?_)
  refine g_aload_n dX12_init_4 0 rfl ?_
  refine g_iload_n dX12_init_5 1 rfl ?_
  refine gp_iF zpd_12_0 q763 (fun _ h9 => h9) rfl rfl dX12_init_6 h (fun m1 h => ?_)
  refine g_vret dX12_init_9 hxt ?_
  have e := Option.some.inj h
  exact Kret _ e
/-! QuiverKin$Plain.<init> -/
def f_X7_init (g : zGd) (m : zMm) (a0 : Option Nat) (a1 : Int32) : Option (zMm) :=
zob a0 ((f_J10_init g m a0).bind fun _ =>
(zpi g m 7 0 a0 a1).bind fun m1 =>
some (m1))
theorem hy_X7_init : zHy yX7_init 1 := ⟨by decide, by decide, by decide +kernel⟩
set_option maxHeartbeats 4000000 in
theorem ok_X7_init (l : Launch) (g : zGd) (m : zMm) (a0 : Option Nat) (a1 : Int32) (m0 : zMm) (h : f_X7_init g m a0 a1 = some m0) : zCT l yX7_init cX7_init 2 none 2 40 g m [va_rf a0, .int a1] none g m0 := by
  refine zCT.of (own := "QuiverKin$Plain") (mn := "<init>") (by decide +kernel) rfl rfl (zla_r (zla_i zla_0)) (zls_r (zls_i zls_0)) (by decide) (fun X hxl hxg hxf hxt hxr hxn => ?_)
  have Kret : ∀ (y0 : zMm), y0 = m0 → zRe X g y0 none := by
    intro y0 e; cases e; exact ⟨hxf, hxr, hxn⟩
  subst hxl
  show zG X cX7_init 2 "QuiverKin$Plain" "<init>" 2 40 0 [(0, va_rf a0), (1, .int a1)] [] g m
  unfold f_X7_init at h
  refine g_aload_n dX7_init_0 0 rfl ?_
  obtain ⟨hs, h⟩ := zob_e h
  refine g_cIRn [] (fun x0 e0 => ok_J10_init (xl X) g m a0 x0 e0) (lw_meth q581) q141 q579 q580 rfl hy_J10_init rfl ⟨by decide, by decide⟩ rfl zc_0 (by decide) hs dX7_init_1 h (fun _ h => ?_)
  refine g_aload_n dX7_init_4 0 rfl ?_
  refine g_iload_n dX7_init_5 1 rfl ?_
  refine gp_iF zpd_7_0 q583 (fun _ h9 => h9) rfl rfl dX7_init_6 h (fun m1 h => ?_)
  refine g_vret dX7_init_9 hxt ?_
  have e := Option.some.inj h
  exact Kret _ e
/-! QuiverKin$Quiver.<init> -/
def f_X14_init (g : zGd) (m : zMm) (a0 : Option Nat) (a1 : Option Nat) : Option (zMm) :=
zob a0 ((f_J10_init g m a0).bind fun _ =>
(zpr g m 14 0 a0 a1).bind fun m1 =>
some (m1))
theorem hy_X14_init : zHy yX14_init 1 := ⟨by decide, by decide, by decide +kernel⟩
set_option maxHeartbeats 4000000 in
theorem ok_X14_init (l : Launch) (g : zGd) (m : zMm) (a0 : Option Nat) (a1 : Option Nat) (m0 : zMm) (h : f_X14_init g m a0 a1 = some m0) : zCT l yX14_init cX14_init 2 none 2 40 g m [va_rf a0, va_rf a1] none g m0 := by
  refine zCT.of (own := "QuiverKin$Quiver") (mn := "<init>") (by decide +kernel) rfl rfl (zla_r (zla_r zla_0)) (zls_r (zls_r zls_0)) (by decide) (fun X hxl hxg hxf hxt hxr hxn => ?_)
  have Kret : ∀ (y0 : zMm), y0 = m0 → zRe X g y0 none := by
    intro y0 e; cases e; exact ⟨hxf, hxr, hxn⟩
  subst hxl
  show zG X cX14_init 2 "QuiverKin$Quiver" "<init>" 2 40 0 [(0, va_rf a0), (1, va_rf a1)] [] g m
  unfold f_X14_init at h
  refine g_aload_n dX14_init_0 0 rfl ?_
  obtain ⟨hs, h⟩ := zob_e h
  refine g_cIRn [] (fun x0 e0 => ok_J10_init (xl X) g m a0 x0 e0) (lw_meth q581) q141 q782 q580 rfl hy_J10_init rfl ⟨by decide, by decide⟩ rfl zc_0 (by decide) hs dX14_init_1 h (fun _ h => ?_)
  refine g_aload_n dX14_init_4 0 rfl ?_
  refine g_aload_n dX14_init_5 1 rfl ?_
  refine gp_rF zpd_14_0 q783 (fun _ h9 => h9) rfl rfl dX14_init_6 h (fun m1 h => ?_)
  refine g_vret dX14_init_9 hxt ?_
  have e := Option.some.inj h
  exact Kret _ e
/-! QuiverKin$Tokens.mayName -/
def f_X3_mayName (g : zGd) (m : zMm) (a0 : Option Nat) (a1 : Int32) : Option (Int32) :=
if a1 < (5 : Int32) then (some ((1 : Int32)))
else (((if a1 = (5 : Int32) then (some ((1 : Int32)))
else (some ((0 : Int32))) : Option (Int32))).bind fun v2 =>
(zgi g m 3 7 a0).bind fun v3 =>
((if v3 = (200 : Int32) then (some ((1 : Int32)))
else (some ((0 : Int32))) : Option (Int32))).bind fun v5 =>
if v2 = v5 then (some ((1 : Int32)))
else (some ((0 : Int32))))
theorem hy_X3_mayName : zHy yX3_mayName 1 := ⟨by decide, by decide, by decide +kernel⟩
set_option maxHeartbeats 4000000 in
theorem ok_X3_mayName (l : Launch) (g : zGd) (m : zMm) (a0 : Option Nat) (a1 : Int32) (z0 : Int32) (h : f_X3_mayName g m a0 a1 = some z0) : zCT l yX3_mayName cX3_mayName 2 (some .boolean) 1 20 g m [va_rf a0, .int a1] (some (.int z0)) g m := by
  refine zCT.of (own := "QuiverKin$Tokens") (mn := "mayName") (by decide +kernel) rfl rfl (zla_r (zla_i zla_0)) (zls_r (zls_i zls_0)) (by decide) (fun X hxl hxg hxf hxt hxr hxn => ?_)
  have Kret : ∀ (y0 : Int32), y0 = z0 → zRe X g m (some (.int y0)) := by
    intro y0 e; cases e; exact ⟨hxf, hxr, hxn⟩
  subst hxl
  show zG X cX3_mayName 2 "QuiverKin$Tokens" "mayName" 1 20 0 [(0, va_rf a0), (1, .int a1)] [] g m
  unfold f_X3_mayName at h
  refine g_iload_n dX3_mayName_0 1 rfl ?_
  refine g_iconst (v := (5 : Int32)) dX3_mayName_1 (by decide) ?_
  refine g_icmp_lt 33 dX3_mayName_2 (by decide) (fun c => ?_) (fun c => ?_)
  · have h := zite_p h c
    refine g_iconst (v := (1 : Int32)) dX3_mayName_33 (by decide) ?_
    refine g_goto 38 dX3_mayName_34 (by decide) ?_
    refine g_zret dX3_mayName_38 hxt rfl ?_
    have e := Option.some.inj h
    exact Kret _ e
  · have h := zite_n h c
    refine g_iload_n dX3_mayName_5 1 rfl ?_
    refine g_iconst (v := (5 : Int32)) dX3_mayName_6 (by decide) ?_
    obtain ⟨o1, h1, h2⟩ := zB_e h
    have K1 : ∀ (v2 : Int32), o1 = v2 → zG X cX3_mayName 2 "QuiverKin$Tokens" "mayName" 1 20 15 [(0, va_rf a0)] [.int v2] g m := by
      intro v2 e
      rw [e] at h2
      have h := h2
      refine g_aload_n dX3_mayName_15 0 rfl ?_
      refine gf_i zfd_3_7 q349  (fun _ h9 => h9) dX3_mayName_16 h (fun v3 h => ?_)
      refine g_sipush (v := (200 : Int32)) dX3_mayName_19 (by decide) ?_
      obtain ⟨o4, h1, h2⟩ := zB_e h
      have K4 : ∀ (v5 : Int32), o4 = v5 → zG X cX3_mayName 2 "QuiverKin$Tokens" "mayName" 1 20 30 [] [.int v5, .int v2] g m := by
        intro v5 e
        rw [e] at h2
        have h := h2
        refine g_icmp_ne 37 dX3_mayName_30 (by decide) (fun c => ?_) (fun c => ?_)
        · have h := zite_n h c
          refine g_iconst (v := (0 : Int32)) dX3_mayName_37 (by decide) ?_
          refine g_zret dX3_mayName_38 hxt rfl ?_
          have e := Option.some.inj h
          exact Kret _ e
        · have h := zite_p h c
          refine g_iconst (v := (1 : Int32)) dX3_mayName_33 (by decide) ?_
          refine g_goto 38 dX3_mayName_34 (by decide) ?_
          refine g_zret dX3_mayName_38 hxt rfl ?_
          have e := Option.some.inj h
          exact Kret _ e
      have h := h1
      refine g_icmp_ne 29 dX3_mayName_22 (by decide) (fun c => ?_) (fun c => ?_)
      · have h := zite_n h c
        refine g_iconst (v := (0 : Int32)) dX3_mayName_29 (by decide) ?_
        refine zG.sub [] rfl ?_
        have e := Option.some.inj h
        exact K4 _ e.symm
      · have h := zite_p h c
        refine g_iconst (v := (1 : Int32)) dX3_mayName_25 (by decide) ?_
        refine g_goto 30 dX3_mayName_26 (by decide) ?_
        refine zG.sub [] rfl ?_
        have e := Option.some.inj h
        exact K4 _ e.symm
    have h := h1
    refine g_icmp_ne 14 dX3_mayName_7 (by decide) (fun c => ?_) (fun c => ?_)
    · have h := zite_n h c
      refine g_iconst (v := (0 : Int32)) dX3_mayName_14 (by decide) ?_
      refine zG.sub [0] rfl ?_
      have e := Option.some.inj h
      exact K1 _ e.symm
    · have h := zite_p h c
      refine g_iconst (v := (1 : Int32)) dX3_mayName_10 (by decide) ?_
      refine g_goto 15 dX3_mayName_11 (by decide) ?_
      refine zG.sub [0] rfl ?_
      have e := Option.some.inj h
      exact K1 _ e.symm
/-! QuiverKin$Tokens.nameNow -/
def b_X3_nameNow_2 (g : zGd) (m : zMm) (a0 : Option Nat) : Int32 → Option ((((Int32) ⊕ (Unit))) ⊕ (Int32)) := fun v3 =>
(zalen g (zS g 2)).bind fun v4 =>
if v4 ≤ v3 then (some (.inl (.inr ())))
else ((zald 101 g m (zS g 2) v3).bind fun v5 =>
(zgi g m 3 4 a0).bind fun v6 =>
if v5 = v6 then (some (.inl (.inl v3)))
else (zlt (v3 + (1 : Int32)) fun v7 =>
some (.inr v7)))
def f_X3_nameNow (g : zGd) (m : zMm) (a0 : Option Nat) : Option (Int32) :=
zEx (σ := Unit) (zLoop (b_X3_nameNow_2 g m a0) zFuel (0 : Int32)) fun _ =>
some ((-1 : Int32))
theorem hy_X3_nameNow : zHy yX3_nameNow 0 := ⟨by decide, by decide, by decide +kernel⟩
set_option maxHeartbeats 4000000 in
theorem ok_X3_nameNow (l : Launch) (g : zGd) (m : zMm) (a0 : Option Nat) (z0 : Int32) (h : f_X3_nameNow g m a0 = some z0) : zCT l yX3_nameNow cX3_nameNow 2 (some .int) 1 20 g m [va_rf a0] (some (.int z0)) g m := by
  refine zCT.of (own := "QuiverKin$Tokens") (mn := "nameNow") (by decide +kernel) rfl rfl (zla_r zla_0) (zls_r zls_0) (by decide) (fun X hxl hxg hxf hxt hxr hxn => ?_)
  have Kret : ∀ (y0 : Int32), y0 = z0 → zRe X g m (some (.int y0)) := by
    intro y0 e; cases e; exact ⟨hxf, hxr, hxn⟩
  subst hxl
  show zG X cX3_nameNow 2 "QuiverKin$Tokens" "nameNow" 1 20 0 [(0, va_rf a0)] [] g m
  unfold f_X3_nameNow at h
  refine g_iconst (v := (0 : Int32)) dX3_nameNow_0 (by decide) ?_
  refine g_istore_n [(1, .int (0 : Int32)), (0, va_rf a0)] dX3_nameNow_1 (by decide) (zf_r zf_0) rfl ?_
  obtain ⟨o1, h1, hl1, hr1⟩ := zEx_e h
  have K1 : o1 = .inr () → zG X cX3_nameNow 2 "QuiverKin$Tokens" "nameNow" 1 20 30 [] [] g m := by
    intro e
    have h := hr1 _ e
    refine g_iconst (v := (-1 : Int32)) dX3_nameNow_30 (by decide) ?_
    refine g_iret dX3_nameNow_31 hxt ?_
    have e := Option.some.inj h
    exact Kret _ e
  refine zG.sub [1, 0] rfl ?_
  refine zLoop_ok (Φ := (fun v3 : Int32 => zG X cX3_nameNow 2 "QuiverKin$Tokens" "nameNow" 1 20 2 [(0, va_rf a0), (1, .int v3)] [] g m)) o1 ?_ zFuel _ h1
  rintro v3 x2 h hl2 hr2
  unfold b_X3_nameNow_2 at h
  have K2 : ∀ (v3 : Int32), x2 = .inr v3 → zG X cX3_nameNow 2 "QuiverKin$Tokens" "nameNow" 1 20 2 [(0, va_rf a0), (1, .int v3)] [] g m := by
    intro v3 e
    exact hr2 _ e
  show zG X cX3_nameNow 2 "QuiverKin$Tokens" "nameNow" 1 20 2 [(0, va_rf a0), (1, .int v3)] [] g m
  refine g_iload_n dX3_nameNow_2 1 rfl ?_
  refine g_gets (List.mem_of_getElem? (i := 2) rfl) q751 (fun _ h9 => h9) dX3_nameNow_3 ?_
  refine g_alen dX3_nameNow_6 h (fun v4 h => ?_)
  refine g_icmp_ge 30 dX3_nameNow_7 (by decide) (fun c => ?_) (fun c => ?_)
  · have h := zite_p h c
    refine zG.sub [] rfl ?_
    have e := Option.some.inj h
    have e := hl2 _ e.symm
    exact K1 e.symm
  · have h := zite_n h c
    refine g_gets (List.mem_of_getElem? (i := 2) rfl) q751 (fun _ h9 => h9) dX3_nameNow_10 ?_
    refine g_iload_n dX3_nameNow_13 1 rfl ?_
    refine g_iald dX3_nameNow_14 h (fun v5 h => ?_)
    refine g_aload_n dX3_nameNow_15 0 rfl ?_
    refine gf_i zfd_3_4 q346  (fun _ h9 => h9) dX3_nameNow_16 h (fun v6 h => ?_)
    refine g_icmp_ne 24 dX3_nameNow_19 (by decide) (fun c => ?_) (fun c => ?_)
    · have h := zite_n h c
      refine g_iinc (v := (1 : Int32)) [(0, va_rf a0)] dX3_nameNow_24 1 rfl (by decide) (by decide) (zf_r (zf_i zf_0)) rfl h (fun v7 h => ?_)
      refine g_goto 2 dX3_nameNow_27 (by decide) ?_
      refine zG.sub [1, 0] rfl ?_
      have e := Option.some.inj h
      exact K2 _ e.symm
    · have h := zite_p h c
      refine g_iload_n dX3_nameNow_22 1 rfl ?_
      refine g_iret dX3_nameNow_23 hxt ?_
      have e := Option.some.inj h
      have e := hl2 _ e.symm
      have e := hl1 _ e.symm
      exact Kret _ e
