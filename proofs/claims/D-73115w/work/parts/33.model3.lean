/-! methods (printed by gen/run2.py) -/
set_option maxRecDepth 100000
/-! QuiverKinModel.reachesOf -/
def f_X2_reachesOf (g : zGd) (m : zMm) (a0 : Option Nat) (a1 : Int32) (a2 : Int32) : Option (Int32 × zMm) :=
(zrc g 2 a0 (f_X2_name g m a0 a2)).bind fun m1 =>
(zgr g m1 2 0 a0).bind fun r2 =>
(zald 101 g m1 r2 ((23 : Int32) + a2)).bind fun v3 =>
(zrc g 2 a0 (f_X2_says g m1 a0 a1 (0 : Int32) v3 (10 : Int32))).bind fun (v4, m5) =>
some ((v4, m5))
theorem hy_X2_reachesOf : zHy yX2_reachesOf 2 := ⟨by decide, by decide, by decide +kernel⟩
set_option maxHeartbeats 4000000 in
theorem ok_X2_reachesOf (l : Launch) (g : zGd) (m : zMm) (a0 : Option Nat) (a1 : Int32) (a2 : Int32) (z0 : Int32) (m0 : zMm) (h : f_X2_reachesOf g m a0 a1 a2 = some (z0, m0)) : zCT l yX2_reachesOf cX2_reachesOf 3 (some .int) 7 162 g m [va_rf a0, .int a1, .int a2] (some (.int z0)) g m0 := by
  refine zCT.of (own := "QuiverKinModel") (mn := "reachesOf") (by decide +kernel) rfl rfl (zla_r (zla_i (zla_i zla_0))) (zls_r (zls_i (zls_i zls_0))) (by decide) (fun X hxl hxg hxf hxt hxr hxn => ?_)
  have Kret : ∀ (y0 : Int32) (y1 : zMm), (y0, y1) = (z0, m0) → zRe X g y1 (some (.int y0)) := by
    intro y0 y1 e; cases e; exact ⟨hxf, hxr, hxn⟩
  subst hxl
  show zG X cX2_reachesOf 3 "QuiverKinModel" "reachesOf" 7 162 0 [(0, va_rf a0), (1, .int a1), (2, .int a2)] [] g m
  unfold f_X2_reachesOf at h
  refine g_aload_n dX2_reachesOf_0 0 rfl ?_
  refine g_iload_n dX2_reachesOf_1 2 rfl ?_
  refine g_cVMn [.int a2] (fun m0 e0 => ok_X2_name (xl X) g m a0 a2 m0 e0) zc2 (by decide) (lw_V q1783 q1785 qs94 q126 q1786) rfl hy_X2_name rfl ⟨by decide, by decide⟩ rfl zc_0 (by decide) dX2_reachesOf_2 h (fun m1 h => ?_)
  refine g_aload_n dX2_reachesOf_5 0 rfl ?_
  refine g_iload_n dX2_reachesOf_6 1 rfl ?_
  refine g_iconst (v := (0 : Int32)) dX2_reachesOf_7 (by decide) ?_
  refine g_aload_n dX2_reachesOf_8 0 rfl ?_
  refine gf_r zfd_2_0 q1410  (fun _ h9 => h9) dX2_reachesOf_9 h (fun r2 h => ?_)
  refine g_bipush (v := (23 : Int32)) dX2_reachesOf_12 (by decide) ?_
  refine g_iload_n dX2_reachesOf_14 2 rfl ?_
  refine g_iadd dX2_reachesOf_15 ?_
  refine g_iald dX2_reachesOf_16 h (fun v3 h => ?_)
  refine g_bipush (v := (10 : Int32)) dX2_reachesOf_17 (by decide) ?_
  refine g_cVMv (rv := fun x : Int32 => Value.int x) [.int a1, .int (0 : Int32), .int v3, .int (10 : Int32)] (fun x0 m0 e0 => ok_X2_says (xl X) g m1 a0 a1 (0 : Int32) v3 (10 : Int32) x0 m0 e0) zc2 (by decide) (lw_V q1791 q1793 qs96 q126 q1794) rfl hy_X2_says rfl ⟨by decide, by decide⟩ rfl zc_0 (by decide) dX2_reachesOf_19 h (fun v4 m5 h => ?_)
  refine g_iret dX2_reachesOf_22 hxt ?_
  have e := Option.some.inj h
  exact Kret _ _ e
/-! QuiverKinModel.pass -/
def b_X2_pass_2 (g : zGd) (a0 : Option Nat) : Int32 × zMm → Option ((zMm) ⊕ (Int32 × zMm)) := fun (v4, m5) =>
(zgr g m5 2 0 a0).bind fun r6 =>
(zald 101 g m5 r6 (0 : Int32)).bind fun v7 =>
if v7 ≤ v4 then (some (.inl m5))
else ((zrc g 2 a0 (f_X2_whoAt g m5 a0 v4)).bind fun v8 =>
(zrc g 2 a0 (f_X2_isStrapped g m5 a0 v8)).bind fun v9 =>
if v9 = 0 then ((zrc g 2 a0 (f_X2_drawnBy g m5 a0 (10 : Int32))).bind fun (v11, m12) =>
(zgr g m12 2 0 a0).bind fun r13 =>
(zald 101 g m12 r13 (2 : Int32)).bind fun v14 =>
(zrc g 2 a0 (f_X2_reachesOf g m12 a0 v14 v8)).bind fun (v15, m16) =>
if v15 ≤ v11 then (zlt (v4 + (1 : Int32)) fun v17 =>
some (.inr (v17, m16)))
else ((zrc g 2 a0 (f_X2_more g m16 a0 v8)).bind fun m18 =>
zlt (v4 + (1 : Int32)) fun v19 =>
some (.inr (v19, m18))))
else (zlt (v4 + (1 : Int32)) fun v10 =>
some (.inr (v10, m5))))
def b_X2_pass_59 (g : zGd) (a0 : Option Nat) : Int32 × zMm → Option ((zMm) ⊕ (Int32 × zMm)) := fun (v23, m24) =>
(zgr g m24 2 0 a0).bind fun r25 =>
(zald 101 g m24 r25 (0 : Int32)).bind fun v26 =>
if v26 ≤ v23 then (some (.inl m24))
else ((zrc g 2 a0 (f_X2_whoAt g m24 a0 v23)).bind fun v27 =>
(zrc g 2 a0 (f_X2_isStrapped g m24 a0 v27)).bind fun v28 =>
if v28 = 0 then ((zgr g m24 2 0 a0).bind fun r30 =>
(zald 101 g m24 r30 ((11 : Int32) + v27)).bind fun v31 =>
(zrc g 2 a0 (f_X2_bearsOf g m24 a0 v27)).bind fun (v32, m33) =>
if v31 ≤ v32 then (zlt (v23 + (1 : Int32)) fun v34 =>
some (.inr (v34, m33)))
else ((zrc g 2 a0 (f_X2_looseNow g m33 a0 v27)).bind fun m35 =>
zlt (v23 + (1 : Int32)) fun v36 =>
some (.inr (v36, m35))))
else (zlt (v23 + (1 : Int32)) fun v29 =>
some (.inr (v29, m24))))
def f_X2_pass (g : zGd) (m : zMm) (a0 : Option Nat) : Option (zMm) :=
(zLoop (b_X2_pass_2 g a0) zFuel ((0 : Int32), m)).bind fun m2 =>
(zLoop (b_X2_pass_59 g a0) zFuel ((0 : Int32), m2)).bind fun m21 =>
(zgr g m21 2 0 a0).bind fun r37 =>
(zald 101 g m21 r37 (7 : Int32)).bind fun v38 =>
(zast 101 g m21 r37 (7 : Int32) (v38 + (1 : Int32))).bind fun m39 =>
some (m39)
theorem hy_X2_pass : zHy yX2_pass 0 := ⟨by decide, by decide, by decide +kernel⟩
set_option maxHeartbeats 4000000 in
theorem ok_X2_pass (l : Launch) (g : zGd) (m : zMm) (a0 : Option Nat) (m0 : zMm) (h : f_X2_pass g m a0 = some m0) : zCT l yX2_pass cX2_pass 3 none 8 184 g m [va_rf a0] none g m0 := by
  refine zCT.of (own := "QuiverKinModel") (mn := "pass") (by decide +kernel) rfl rfl (zla_r zla_0) (zls_r zls_0) (by decide) (fun X hxl hxg hxf hxt hxr hxn => ?_)
  have Kret : ∀ (y0 : zMm), y0 = m0 → zRe X g y0 none := by
    intro y0 e; cases e; exact ⟨hxf, hxr, hxn⟩
  subst hxl
  show zG X cX2_pass 3 "QuiverKinModel" "pass" 8 184 0 [(0, va_rf a0)] [] g m
  unfold f_X2_pass at h
  refine g_iconst (v := (0 : Int32)) dX2_pass_0 (by decide) ?_
  refine g_istore_n [(1, .int (0 : Int32)), (0, va_rf a0)] dX2_pass_1 (by decide) (zf_r zf_0) rfl ?_
  obtain ⟨o1, h1, h2⟩ := zB_e h
  have K1 : ∀ (m2 : zMm), o1 = m2 → zG X cX2_pass 3 "QuiverKinModel" "pass" 8 184 57 [(0, va_rf a0)] [] g m2 := by
    intro m2 e
    rw [e] at h2
    have h := h2
    refine g_iconst (v := (0 : Int32)) dX2_pass_57 (by decide) ?_
    refine g_istore_n [(1, .int (0 : Int32)), (0, va_rf a0)] dX2_pass_58 (by decide) (zf_r zf_0) rfl ?_
    obtain ⟨o20, h1, h2⟩ := zB_e h
    have K20 : ∀ (m21 : zMm), o20 = m21 → zG X cX2_pass 3 "QuiverKinModel" "pass" 8 184 111 [(0, va_rf a0)] [] g m21 := by
      intro m21 e
      rw [e] at h2
      have h := h2
      refine g_aload_n dX2_pass_111 0 rfl ?_
      refine gf_r zfd_2_0 q1410  (fun _ h9 => h9) dX2_pass_112 h (fun r37 h => ?_)
      refine g_bipush (v := (7 : Int32)) dX2_pass_115 (by decide) ?_
      refine g_dup2 dX2_pass_117 rfl (zcat_r _) ?_
      refine g_iald dX2_pass_118 h (fun v38 h => ?_)
      refine g_iconst (v := (1 : Int32)) dX2_pass_119 (by decide) ?_
      refine g_iadd dX2_pass_120 ?_
      refine g_iast dX2_pass_121 h (fun m39 h => ?_)
      refine g_vret dX2_pass_122 hxt ?_
      have e := Option.some.inj h
      exact Kret _ e
    refine zG.sub [1, 0] rfl ?_
    refine zLoop_ok (Φ := (fun (q : Int32 × zMm) => match q with | (v23, m24) => zG X cX2_pass 3 "QuiverKinModel" "pass" 8 184 59 [(0, va_rf a0), (1, .int v23)] [] g m24)) o20 ?_ zFuel _ h1
    rintro ⟨v23, m24⟩ x22 h hl22 hr22
    unfold b_X2_pass_59 at h
    have K22 : ∀ (v23 : Int32) (m24 : zMm), x22 = .inr (v23, m24) → zG X cX2_pass 3 "QuiverKinModel" "pass" 8 184 59 [(0, va_rf a0), (1, .int v23)] [] g m24 := by
      intro v23 m24 e
      exact hr22 _ e
    show zG X cX2_pass 3 "QuiverKinModel" "pass" 8 184 59 [(0, va_rf a0), (1, .int v23)] [] g m24
    refine g_iload_n dX2_pass_59 1 rfl ?_
    refine g_aload_n dX2_pass_60 0 rfl ?_
    refine gf_r zfd_2_0 q1410  (fun _ h9 => h9) dX2_pass_61 h (fun r25 h => ?_)
    refine g_iconst (v := (0 : Int32)) dX2_pass_64 (by decide) ?_
    refine g_iald dX2_pass_65 h (fun v26 h => ?_)
    refine g_icmp_ge 111 dX2_pass_66 (by decide) (fun c => ?_) (fun c => ?_)
    · have h := zite_p h c
      refine zG.sub [0] rfl ?_
      have e := Option.some.inj h
      have e := hl22 _ e.symm
      exact K20 _ e.symm
    · have h := zite_n h c
      refine g_aload_n dX2_pass_69 0 rfl ?_
      refine g_iload_n dX2_pass_70 1 rfl ?_
      refine g_cVRv (rv := fun x : Int32 => Value.int x) [.int v23] (fun x0 e0 => ok_X2_whoAt (xl X) g m24 a0 v23 x0 e0) zc2 (by decide) (lw_V q1764 q1766 qs90 q126 q1767) rfl hy_X2_whoAt rfl ⟨by decide, by decide⟩ rfl zc_0 (by decide) dX2_pass_71 h (fun v27 h => ?_)
      refine g_istore_n [(2, .int v27), (0, va_rf a0), (1, .int v23)] dX2_pass_74 (by decide) (zf_r (zf_i zf_0)) rfl ?_
      refine g_aload_n dX2_pass_75 1 rfl ?_
      refine g_iload_n dX2_pass_76 0 rfl ?_
      refine g_cVRv (rv := fun x : Int32 => Value.int x) [.int v27] (fun x0 e0 => ok_X2_isStrapped (xl X) g m24 a0 v27 x0 e0) zc2 (by decide) (lw_V q1717 q1719 qs83 q126 q1720) rfl hy_X2_isStrapped rfl ⟨by decide, by decide⟩ rfl zc_0 (by decide) dX2_pass_77 h (fun v28 h => ?_)
      refine g_if_ne 105 dX2_pass_80 (by decide) (fun c => ?_) (fun c => ?_)
      · have h := zite_n h c
        refine g_iinc (v := (1 : Int32)) [(2, .int v27), (0, va_rf a0)] dX2_pass_105 2 rfl (by decide) (by decide) (zf_i (zf_r (zf_i zf_0))) rfl h (fun v29 h => ?_)
        refine g_goto 59 dX2_pass_108 (by decide) ?_
        refine zG.sub [2, 0] rfl ?_
        have e := Option.some.inj h
        exact K22 _ _ e.symm
      · have h := zite_p h c
        refine g_aload_n dX2_pass_83 1 rfl ?_
        refine gf_r zfd_2_0 q1410  (fun _ h9 => h9) dX2_pass_84 h (fun r30 h => ?_)
        refine g_bipush (v := (11 : Int32)) dX2_pass_87 (by decide) ?_
        refine g_iload_n dX2_pass_89 0 rfl ?_
        refine g_iadd dX2_pass_90 ?_
        refine g_iald dX2_pass_91 h (fun v31 h => ?_)
        refine g_aload_n dX2_pass_92 1 rfl ?_
        refine g_iload_n dX2_pass_93 0 rfl ?_
        refine g_cVMv (rv := fun x : Int32 => Value.int x) [.int v27] (fun x0 m0 e0 => ok_X2_bearsOf (xl X) g m24 a0 v27 x0 m0 e0) zc2 (by decide) (lw_V q1821 q1823 qs100 q126 q1824) rfl hy_X2_bearsOf rfl ⟨by decide, by decide⟩ rfl (zc_i zc_0) (by decide) dX2_pass_94 h (fun v32 m33 h => ?_)
        refine g_icmp_le 105 dX2_pass_97 (by decide) (fun c => ?_) (fun c => ?_)
        · have h := zite_p h c
          refine g_iinc (v := (1 : Int32)) [(2, .int v27), (0, va_rf a0)] dX2_pass_105 2 rfl (by decide) (by decide) (zf_i (zf_r (zf_i zf_0))) rfl h (fun v34 h => ?_)
          refine g_goto 59 dX2_pass_108 (by decide) ?_
          refine zG.sub [2, 0] rfl ?_
          have e := Option.some.inj h
          exact K22 _ _ e.symm
        · have h := zite_n h c
          refine g_aload_n dX2_pass_100 1 rfl ?_
          refine g_iload_n dX2_pass_101 0 rfl ?_
          refine g_cVMn [.int v27] (fun m0 e0 => ok_X2_looseNow (xl X) g m33 a0 v27 m0 e0) zc2 (by decide) (lw_V q1825 q1827 qs101 q126 q1828) rfl hy_X2_looseNow rfl ⟨by decide, by decide⟩ rfl zc_0 (by decide) dX2_pass_102 h (fun m35 h => ?_)
          refine g_iinc (v := (1 : Int32)) [(2, .int v27), (0, va_rf a0)] dX2_pass_105 2 rfl (by decide) (by decide) (zf_i (zf_r (zf_i zf_0))) rfl h (fun v36 h => ?_)
          refine g_goto 59 dX2_pass_108 (by decide) ?_
          refine zG.sub [2, 0] rfl ?_
          have e := Option.some.inj h
          exact K22 _ _ e.symm
  refine zG.sub [1, 0] rfl ?_
  refine zLoop_ok (Φ := (fun (q : Int32 × zMm) => match q with | (v4, m5) => zG X cX2_pass 3 "QuiverKinModel" "pass" 8 184 2 [(0, va_rf a0), (1, .int v4)] [] g m5)) o1 ?_ zFuel _ h1
  rintro ⟨v4, m5⟩ x3 h hl3 hr3
  unfold b_X2_pass_2 at h
  have K3 : ∀ (v4 : Int32) (m5 : zMm), x3 = .inr (v4, m5) → zG X cX2_pass 3 "QuiverKinModel" "pass" 8 184 2 [(0, va_rf a0), (1, .int v4)] [] g m5 := by
    intro v4 m5 e
    exact hr3 _ e
  show zG X cX2_pass 3 "QuiverKinModel" "pass" 8 184 2 [(0, va_rf a0), (1, .int v4)] [] g m5
  refine g_iload_n dX2_pass_2 1 rfl ?_
  refine g_aload_n dX2_pass_3 0 rfl ?_
  refine gf_r zfd_2_0 q1410  (fun _ h9 => h9) dX2_pass_4 h (fun r6 h => ?_)
  refine g_iconst (v := (0 : Int32)) dX2_pass_7 (by decide) ?_
  refine g_iald dX2_pass_8 h (fun v7 h => ?_)
  refine g_icmp_ge 57 dX2_pass_9 (by decide) (fun c => ?_) (fun c => ?_)
  · have h := zite_p h c
    refine zG.sub [0] rfl ?_
    have e := Option.some.inj h
    have e := hl3 _ e.symm
    exact K1 _ e.symm
  · have h := zite_n h c
    refine g_aload_n dX2_pass_12 0 rfl ?_
    refine g_iload_n dX2_pass_13 1 rfl ?_
    refine g_cVRv (rv := fun x : Int32 => Value.int x) [.int v4] (fun x0 e0 => ok_X2_whoAt (xl X) g m5 a0 v4 x0 e0) zc2 (by decide) (lw_V q1764 q1766 qs90 q126 q1767) rfl hy_X2_whoAt rfl ⟨by decide, by decide⟩ rfl zc_0 (by decide) dX2_pass_14 h (fun v8 h => ?_)
    refine g_istore_n [(2, .int v8), (0, va_rf a0), (1, .int v4)] dX2_pass_17 (by decide) (zf_r (zf_i zf_0)) rfl ?_
    refine g_aload_n dX2_pass_18 1 rfl ?_
    refine g_iload_n dX2_pass_19 0 rfl ?_
    refine g_cVRv (rv := fun x : Int32 => Value.int x) [.int v8] (fun x0 e0 => ok_X2_isStrapped (xl X) g m5 a0 v8 x0 e0) zc2 (by decide) (lw_V q1717 q1719 qs83 q126 q1720) rfl hy_X2_isStrapped rfl ⟨by decide, by decide⟩ rfl zc_0 (by decide) dX2_pass_20 h (fun v9 h => ?_)
    refine g_if_ne 51 dX2_pass_23 (by decide) (fun c => ?_) (fun c => ?_)
    · have h := zite_n h c
      refine g_iinc (v := (1 : Int32)) [(2, .int v8), (0, va_rf a0)] dX2_pass_51 2 rfl (by decide) (by decide) (zf_i (zf_r (zf_i zf_0))) rfl h (fun v10 h => ?_)
      refine g_goto 2 dX2_pass_54 (by decide) ?_
      refine zG.sub [2, 0] rfl ?_
      have e := Option.some.inj h
      exact K3 _ _ e.symm
    · have h := zite_p h c
      refine g_aload_n dX2_pass_26 1 rfl ?_
      refine g_bipush (v := (10 : Int32)) dX2_pass_27 (by decide) ?_
      refine g_cVMv (rv := fun x : Int32 => Value.int x) [.int (10 : Int32)] (fun x0 m0 e0 => ok_X2_drawnBy (xl X) g m5 a0 (10 : Int32) x0 m0 e0) zc2 (by decide) (lw_V q1768 q1770 qs91 q126 q1771) rfl hy_X2_drawnBy rfl ⟨by decide, by decide⟩ rfl zc_0 (by decide) dX2_pass_29 h (fun v11 m12 h => ?_)
      refine g_aload_n dX2_pass_32 1 rfl ?_
      refine g_aload_n dX2_pass_33 1 rfl ?_
      refine gf_r zfd_2_0 q1410  (fun _ h9 => h9) dX2_pass_34 h (fun r13 h => ?_)
      refine g_iconst (v := (2 : Int32)) dX2_pass_37 (by decide) ?_
      refine g_iald dX2_pass_38 h (fun v14 h => ?_)
      refine g_iload_n dX2_pass_39 0 rfl ?_
      refine g_cVMv (rv := fun x : Int32 => Value.int x) [.int v14, .int v8] (fun x0 m0 e0 => ok_X2_reachesOf (xl X) g m12 a0 v14 v8 x0 m0 e0) zc2 (by decide) (lw_V q1779 q1781 qs93 q126 q1782) rfl hy_X2_reachesOf rfl ⟨by decide, by decide⟩ rfl (zc_i zc_0) (by decide) dX2_pass_40 h (fun v15 m16 h => ?_)
      refine g_icmp_ge 51 dX2_pass_43 (by decide) (fun c => ?_) (fun c => ?_)
      · have h := zite_p h c
        refine g_iinc (v := (1 : Int32)) [(2, .int v8), (0, va_rf a0)] dX2_pass_51 2 rfl (by decide) (by decide) (zf_i (zf_r (zf_i zf_0))) rfl h (fun v17 h => ?_)
        refine g_goto 2 dX2_pass_54 (by decide) ?_
        refine zG.sub [2, 0] rfl ?_
        have e := Option.some.inj h
        exact K3 _ _ e.symm
      · have h := zite_n h c
        refine g_aload_n dX2_pass_46 1 rfl ?_
        refine g_iload_n dX2_pass_47 0 rfl ?_
        refine g_cVMn [.int v8] (fun m0 e0 => ok_X2_more (xl X) g m16 a0 v8 m0 e0) zc2 (by decide) (lw_V q1725 q1727 qs85 q126 q1728) rfl hy_X2_more rfl ⟨by decide, by decide⟩ rfl zc_0 (by decide) dX2_pass_48 h (fun m18 h => ?_)
        refine g_iinc (v := (1 : Int32)) [(2, .int v8), (0, va_rf a0)] dX2_pass_51 2 rfl (by decide) (by decide) (zf_i (zf_r (zf_i zf_0))) rfl h (fun v19 h => ?_)
        refine g_goto 2 dX2_pass_54 (by decide) ?_
        refine zG.sub [2, 0] rfl ?_
        have e := Option.some.inj h
        exact K3 _ _ e.symm
/-! QuiverKinModel.arePassed -/
def b_X2_arePassed_7 (g : zGd) (a0 : Option Nat) (a1 : Int32) : Int32 × zMm → Option ((((Int32 × zMm) ⊕ (zMm))) ⊕ (Int32 × zMm)) := fun (v5, m6) =>
if a1 ≤ v5 then (some (.inl (.inr m6)))
else ((zgr g m6 2 0 a0).bind fun r7 =>
(zald 101 g m6 r7 (7 : Int32)).bind fun v8 =>
if v8 = (9999 : Int32) then (some (.inl (.inl (((0 : Int32), m6)))))
else ((zrc g 2 a0 (f_X2_keep g m6 a0)).bind fun m9 =>
(zrc g 2 a0 (f_X2_pass g m9 a0)).bind fun m10 =>
zlt (v5 + (1 : Int32)) fun v11 =>
some (.inr (v11, m10))))
def f_X2_arePassed (g : zGd) (m : zMm) (a0 : Option Nat) (a1 : Int32) : Option (Int32 × zMm) :=
(zpi g m 2 24 a0 (0 : Int32)).bind fun m1 =>
zEx (σ := zMm) (zLoop (b_X2_arePassed_7 g a0 a1) zFuel ((0 : Int32), m1)) fun m3 =>
some (((1 : Int32), m3))
theorem hy_X2_arePassed : zHy yX2_arePassed 1 := ⟨by decide, by decide, by decide +kernel⟩
set_option maxHeartbeats 4000000 in
theorem ok_X2_arePassed (l : Launch) (g : zGd) (m : zMm) (a0 : Option Nat) (a1 : Int32) (z0 : Int32) (m0 : zMm) (h : f_X2_arePassed g m a0 a1 = some (z0, m0)) : zCT l yX2_arePassed cX2_arePassed 3 (some .boolean) 9 206 g m [va_rf a0, .int a1] (some (.int z0)) g m0 := by
  refine zCT.of (own := "QuiverKinModel") (mn := "arePassed") (by decide +kernel) rfl rfl (zla_r (zla_i zla_0)) (zls_r (zls_i zls_0)) (by decide) (fun X hxl hxg hxf hxt hxr hxn => ?_)
  have Kret : ∀ (y0 : Int32) (y1 : zMm), (y0, y1) = (z0, m0) → zRe X g y1 (some (.int y0)) := by
    intro y0 y1 e; cases e; exact ⟨hxf, hxr, hxn⟩
  subst hxl
  show zG X cX2_arePassed 3 "QuiverKinModel" "arePassed" 9 206 0 [(0, va_rf a0), (1, .int a1)] [] g m
  unfold f_X2_arePassed at h
  refine g_aload_n dX2_arePassed_0 0 rfl ?_
  refine g_iconst (v := (0 : Int32)) dX2_arePassed_1 (by decide) ?_
  refine gp_i zpd_2_24 q1434 (fun _ h9 => h9) dX2_arePassed_2 h (fun m1 h => ?_)
  refine g_iconst (v := (0 : Int32)) dX2_arePassed_5 (by decide) ?_
  refine g_istore_n [(2, .int (0 : Int32)), (0, va_rf a0), (1, .int a1)] dX2_arePassed_6 (by decide) (zf_r (zf_i zf_0)) rfl ?_
  obtain ⟨o2, h1, hl2, hr2⟩ := zEx_e h
  have K2 : ∀ (m3 : zMm), o2 = .inr m3 → zG X cX2_arePassed 3 "QuiverKinModel" "arePassed" 9 206 41 [] [] g m3 := by
    intro m3 e
    have h := hr2 _ e
    refine g_iconst (v := (1 : Int32)) dX2_arePassed_41 (by decide) ?_
    refine g_zret dX2_arePassed_42 hxt rfl ?_
    have e := Option.some.inj h
    exact Kret _ _ e
  refine zG.sub [1, 2, 0] rfl ?_
  refine zLoop_ok (Φ := (fun (q : Int32 × zMm) => match q with | (v5, m6) => zG X cX2_arePassed 3 "QuiverKinModel" "arePassed" 9 206 7 [(0, va_rf a0), (1, .int a1), (2, .int v5)] [] g m6)) o2 ?_ zFuel _ h1
  rintro ⟨v5, m6⟩ x4 h hl4 hr4
  unfold b_X2_arePassed_7 at h
  have K4 : ∀ (v5 : Int32) (m6 : zMm), x4 = .inr (v5, m6) → zG X cX2_arePassed 3 "QuiverKinModel" "arePassed" 9 206 7 [(0, va_rf a0), (1, .int a1), (2, .int v5)] [] g m6 := by
    intro v5 m6 e
    exact hr4 _ e
  show zG X cX2_arePassed 3 "QuiverKinModel" "arePassed" 9 206 7 [(0, va_rf a0), (1, .int a1), (2, .int v5)] [] g m6
  refine g_iload_n dX2_arePassed_7 2 rfl ?_
  refine g_iload_n dX2_arePassed_8 1 rfl ?_
  refine g_icmp_ge 41 dX2_arePassed_9 (by decide) (fun c => ?_) (fun c => ?_)
  · have h := zite_p h c
    refine zG.sub [] rfl ?_
    have e := Option.some.inj h
    have e := hl4 _ e.symm
    exact K2 _ e.symm
  · have h := zite_n h c
    refine g_aload_n dX2_arePassed_12 0 rfl ?_
    refine gf_r zfd_2_0 q1410  (fun _ h9 => h9) dX2_arePassed_13 h (fun r7 h => ?_)
    refine g_bipush (v := (7 : Int32)) dX2_arePassed_16 (by decide) ?_
    refine g_iald dX2_arePassed_18 h (fun v8 h => ?_)
    refine g_sipush (v := (9999 : Int32)) dX2_arePassed_19 (by decide) ?_
    refine g_icmp_ne 27 dX2_arePassed_22 (by decide) (fun c => ?_) (fun c => ?_)
    · have h := zite_n h c
      refine g_aload_n dX2_arePassed_27 0 rfl ?_
      refine g_cVMn [] (fun m0 e0 => ok_X2_keep (xl X) g m6 a0 m0 e0) zc2 (by decide) (lw_V q1721 q1723 qs84 q126 q1724) rfl hy_X2_keep rfl ⟨by decide, by decide⟩ rfl zc_0 (by decide) dX2_arePassed_28 h (fun m9 h => ?_)
      refine g_aload_n dX2_arePassed_31 0 rfl ?_
      refine g_cVMn [] (fun m0 e0 => ok_X2_pass (xl X) g m9 a0 m0 e0) zc2 (by decide) (lw_V q1760 q1762 qs89 q126 q1763) rfl hy_X2_pass rfl ⟨by decide, by decide⟩ rfl zc_0 (by decide) dX2_arePassed_32 h (fun m10 h => ?_)
      refine g_iinc (v := (1 : Int32)) [(0, va_rf a0), (1, .int a1)] dX2_arePassed_35 2 rfl (by decide) (by decide) (zf_r (zf_i (zf_i zf_0))) rfl h (fun v11 h => ?_)
      refine g_goto 7 dX2_arePassed_38 (by decide) ?_
      refine zG.sub [1, 2, 0] rfl ?_
      have e := Option.some.inj h
      exact K4 _ _ e.symm
    · have h := zite_p h c
      refine g_iconst (v := (0 : Int32)) dX2_arePassed_25 (by decide) ?_
      refine g_zret dX2_arePassed_26 hxt rfl ?_
      have e := Option.some.inj h
      have e := hl4 _ e.symm
      have e := hl2 _ e.symm
      exact Kret _ _ e
/-! QuiverKinModel.dinner -/
def f_X2_dinner (g : zGd) (m : zMm) (a0 : Option Nat) (a1 : Int32) : Option (Int32 × zMm) :=
(f_X2_isIn a1 (1 : Int32) (60 : Int32)).bind fun v1 =>
if v1 = 0 then (some (((-1 : Int32), m)))
else ((zgr g m 2 0 a0).bind fun r2 =>
(zald 101 g m r2 (7 : Int32)).bind fun v3 =>
if (9999 : Int32) < (v3 + a1) then (some (((-1 : Int32), m)))
else ((zrc g 2 a0 (f_X2_arePassed g m a0 a1)).bind fun (v4, m5) =>
if v4 = 0 then (some (((-1 : Int32), m5)))
else ((zgi g m5 2 24 a0).bind fun v6 =>
some ((v6, m5)))))
theorem hy_X2_dinner : zHy yX2_dinner 1 := ⟨by decide, by decide, by decide +kernel⟩
set_option maxHeartbeats 4000000 in
theorem ok_X2_dinner (l : Launch) (g : zGd) (m : zMm) (a0 : Option Nat) (a1 : Int32) (z0 : Int32) (m0 : zMm) (h : f_X2_dinner g m a0 a1 = some (z0, m0)) : zCT l yX2_dinner cX2_dinner 2 (some .int) 10 228 g m [va_rf a0, .int a1] (some (.int z0)) g m0 := by
  refine zCT.of (own := "QuiverKinModel") (mn := "dinner") (by decide +kernel) rfl rfl (zla_r (zla_i zla_0)) (zls_r (zls_i zls_0)) (by decide) (fun X hxl hxg hxf hxt hxr hxn => ?_)
  have Kret : ∀ (y0 : Int32) (y1 : zMm), (y0, y1) = (z0, m0) → zRe X g y1 (some (.int y0)) := by
    intro y0 y1 e; cases e; exact ⟨hxf, hxr, hxn⟩
  subst hxl
  show zG X cX2_dinner 2 "QuiverKinModel" "dinner" 10 228 0 [(0, va_rf a0), (1, .int a1)] [] g m
  unfold f_X2_dinner at h
  refine g_iload_n dX2_dinner_0 1 rfl ?_
  refine g_iconst (v := (1 : Int32)) dX2_dinner_1 (by decide) ?_
  refine g_bipush (v := (60 : Int32)) dX2_dinner_2 (by decide) ?_
  refine g_cSRv (rv := fun x : Int32 => Value.int x) [.int a1, .int (1 : Int32), .int (60 : Int32)] (fun x0 e0 => ok_X2_isIn (xl X) g m a1 (1 : Int32) (60 : Int32) x0 e0) (lw_S q1534 q1535 q126 q1536) hy_X2_isIn rfl ⟨by decide, by decide⟩ rfl zc_0 (by decide) dX2_dinner_4 h (fun v1 h => ?_)
  refine g_if_eq 40 dX2_dinner_7 (by decide) (fun c => ?_) (fun c => ?_)
  · have h := zite_p h c
    refine g_iconst (v := (-1 : Int32)) dX2_dinner_40 (by decide) ?_
    refine g_iret dX2_dinner_41 hxt ?_
    have e := Option.some.inj h
    exact Kret _ _ e
  · have h := zite_n h c
    refine g_aload_n dX2_dinner_10 0 rfl ?_
    refine gf_r zfd_2_0 q1410  (fun _ h9 => h9) dX2_dinner_11 h (fun r2 h => ?_)
    refine g_bipush (v := (7 : Int32)) dX2_dinner_14 (by decide) ?_
    refine g_iald dX2_dinner_16 h (fun v3 h => ?_)
    refine g_iload_n dX2_dinner_17 1 rfl ?_
    refine g_iadd dX2_dinner_18 ?_
    refine g_sipush (v := (9999 : Int32)) dX2_dinner_19 (by decide) ?_
    refine g_icmp_gt 40 dX2_dinner_22 (by decide) (fun c => ?_) (fun c => ?_)
    · have h := zite_p h c
      refine g_iconst (v := (-1 : Int32)) dX2_dinner_40 (by decide) ?_
      refine g_iret dX2_dinner_41 hxt ?_
      have e := Option.some.inj h
      exact Kret _ _ e
    · have h := zite_n h c
      refine g_aload_n dX2_dinner_25 0 rfl ?_
      refine g_iload_n dX2_dinner_26 1 rfl ?_
      refine g_cVMv (rv := fun x : Int32 => Value.int x) [.int a1] (fun x0 m0 e0 => ok_X2_arePassed (xl X) g m a0 a1 x0 m0 e0) zc2 (by decide) (lw_V q1756 q1758 qs88 q126 q1759) rfl hy_X2_arePassed rfl ⟨by decide, by decide⟩ rfl zc_0 (by decide) dX2_dinner_27 h (fun v4 m5 h => ?_)
      refine g_if_eq 40 dX2_dinner_30 (by decide) (fun c => ?_) (fun c => ?_)
      · have h := zite_p h c
        refine g_iconst (v := (-1 : Int32)) dX2_dinner_40 (by decide) ?_
        refine g_iret dX2_dinner_41 hxt ?_
        have e := Option.some.inj h
        exact Kret _ _ e
      · have h := zite_n h c
        refine g_aload_n dX2_dinner_33 0 rfl ?_
        refine gf_i zfd_2_24 q1434  (fun _ h9 => h9) dX2_dinner_34 h (fun v6 h => ?_)
        refine g_goto 41 dX2_dinner_37 (by decide) ?_
        refine g_iret dX2_dinner_41 hxt ?_
        have e := Option.some.inj h
        exact Kret _ _ e
/-! QuiverKinModel.isPlayed -/
def f_X2_isPlayed (g : zGd) (m : zMm) (a0 : Option Nat) (a1 : Int32) : Option (Int32 × zMm) :=
(zgr g m 2 2 a0).bind fun r1 =>
(zald 101 g m r1 (a1 + (1 : Int32))).bind fun v2 =>
(zgr g m 2 2 a0).bind fun r3 =>
(zald 101 g m r3 (a1 + (2 : Int32))).bind fun v4 =>
(zgr g m 2 2 a0).bind fun r5 =>
(zald 101 g m r5 a1).bind fun v6 =>
if v6 = (2 : Int32) then ((zrc g 2 a0 (f_X2_kin g m a0 v2 v4)).bind fun (v7, m8) =>
if v7 < 0 then (some (((0 : Int32), m8)))
else (some (((1 : Int32), m8))))
else if v6 = (3 : Int32) then ((zrc g 2 a0 (f_X2_reach g m a0 v2)).bind fun (v9, m10) =>
if v9 < 0 then (some (((0 : Int32), m10)))
else (some (((1 : Int32), m10))))
else if v6 = (4 : Int32) then ((zrc g 2 a0 (f_X2_down g m a0 v2 v4)).bind fun (v11, m12) =>
(zbo v11).bind fun z =>
some ((z, m12)))
else if v6 = (5 : Int32) then ((zrc g 2 a0 (f_X2_strap g m a0 v2)).bind fun (v13, m14) =>
(zbo v13).bind fun z =>
some ((z, m14)))
else if v6 = (6 : Int32) then ((zrc g 2 a0 (f_X2_swap g m a0 v2 v4)).bind fun (v15, m16) =>
(zbo v15).bind fun z =>
some ((z, m16)))
else if v6 = (7 : Int32) then ((zrc g 2 a0 (f_X2_arePassed g m a0 v2)).bind fun (v17, m18) =>
(zbo v17).bind fun z =>
some ((z, m18)))
else (some (((1 : Int32), m)))
theorem hy_X2_isPlayed : zHy yX2_isPlayed 1 := ⟨by decide, by decide, by decide +kernel⟩
set_option maxHeartbeats 4000000 in
theorem ok_X2_isPlayed (l : Launch) (g : zGd) (m : zMm) (a0 : Option Nat) (a1 : Int32) (z0 : Int32) (m0 : zMm) (h : f_X2_isPlayed g m a0 a1 = some (z0, m0)) : zCT l yX2_isPlayed cX2_isPlayed 4 (some .boolean) 10 228 g m [va_rf a0, .int a1] (some (.int z0)) g m0 := by
  refine zCT.of (own := "QuiverKinModel") (mn := "isPlayed") (by decide +kernel) rfl rfl (zla_r (zla_i zla_0)) (zls_r (zls_i zls_0)) (by decide) (fun X hxl hxg hxf hxt hxr hxn => ?_)
  have Kret : ∀ (y0 : Int32) (y1 : zMm), (y0, y1) = (z0, m0) → zRe X g y1 (some (.int y0)) := by
    intro y0 y1 e; cases e; exact ⟨hxf, hxr, hxn⟩
  subst hxl
  show zG X cX2_isPlayed 4 "QuiverKinModel" "isPlayed" 10 228 0 [(0, va_rf a0), (1, .int a1)] [] g m
  unfold f_X2_isPlayed at h
  refine g_aload_n dX2_isPlayed_0 0 rfl ?_
  refine gf_r zfd_2_2 q1412  (fun _ h9 => h9) dX2_isPlayed_1 h (fun r1 h => ?_)
  refine g_iload_n dX2_isPlayed_4 1 rfl ?_
  refine g_iconst (v := (1 : Int32)) dX2_isPlayed_5 (by decide) ?_
  refine g_iadd dX2_isPlayed_6 ?_
  refine g_iald dX2_isPlayed_7 h (fun v2 h => ?_)
  refine g_istore_n [(2, .int v2), (0, va_rf a0), (1, .int a1)] dX2_isPlayed_8 (by decide) (zf_r (zf_i zf_0)) rfl ?_
  refine g_aload_n dX2_isPlayed_9 1 rfl ?_
  refine gf_r zfd_2_2 q1412  (fun _ h9 => h9) dX2_isPlayed_10 h (fun r3 h => ?_)
  refine g_iload_n dX2_isPlayed_13 2 rfl ?_
  refine g_iconst (v := (2 : Int32)) dX2_isPlayed_14 (by decide) ?_
  refine g_iadd dX2_isPlayed_15 ?_
  refine g_iald dX2_isPlayed_16 h (fun v4 h => ?_)
  refine g_istore_n [(3, .int v4), (2, .int v2), (0, va_rf a0), (1, .int a1)] dX2_isPlayed_17 (by decide) (zf_i (zf_r (zf_i zf_0))) rfl ?_
  refine g_aload_n dX2_isPlayed_18 2 rfl ?_
  refine gf_r zfd_2_2 q1412  (fun _ h9 => h9) dX2_isPlayed_19 h (fun r5 h => ?_)
  refine g_iload_n dX2_isPlayed_22 3 rfl ?_
  refine g_iald dX2_isPlayed_23 h (fun v6 h => ?_)
  rcases Decidable.em (v6 = (2 : Int32)) with c | c2
  · have h := zite_p h c
    refine g_tsw (v := (2 : Int32)) (off := 40) 64 dX2_isPlayed_24 c (by decide) (by decide) (by decide) (by decide) ?_
    refine g_aload_n dX2_isPlayed_64 2 rfl ?_
    refine g_iload_n dX2_isPlayed_65 1 rfl ?_
    refine g_iload_n dX2_isPlayed_66 0 rfl ?_
    refine g_cVMv (rv := fun x : Int32 => Value.int x) [.int v2, .int v4] (fun x0 m0 e0 => ok_X2_kin (xl X) g m a0 v2 v4 x0 m0 e0) zc2 (by decide) (lw_V q1841 q1531 q1532 q126 q1533) rfl hy_X2_kin rfl ⟨by decide, by decide⟩ rfl zc_0 (by decide) dX2_isPlayed_67 h (fun v7 m8 h => ?_)
    refine g_if_lt 77 dX2_isPlayed_70 (by decide) (fun c => ?_) (fun c => ?_)
    · have h := zite_p h c
      refine g_iconst (v := (0 : Int32)) dX2_isPlayed_77 (by decide) ?_
      refine g_zret dX2_isPlayed_78 hxt rfl ?_
      have e := Option.some.inj h
      exact Kret _ _ e
    · have h := zite_n h c
      refine g_iconst (v := (1 : Int32)) dX2_isPlayed_73 (by decide) ?_
      refine g_goto 78 dX2_isPlayed_74 (by decide) ?_
      refine g_zret dX2_isPlayed_78 hxt rfl ?_
      have e := Option.some.inj h
      exact Kret _ _ e
  have h := zite_n h c2
  rcases Decidable.em (v6 = (3 : Int32)) with c | c3
  · have h := zite_p h c
    refine g_tsw (v := (3 : Int32)) (off := 55) 79 dX2_isPlayed_24 c (by decide) (by decide) (by decide) (by decide) ?_
    refine g_aload_n dX2_isPlayed_79 2 rfl ?_
    refine g_iload_n dX2_isPlayed_80 1 rfl ?_
    refine g_cVMv (rv := fun x : Int32 => Value.int x) [.int v2] (fun x0 m0 e0 => ok_X2_reach (xl X) g m a0 v2 x0 m0 e0) zc2 (by decide) (lw_V q1842 q1714 q1715 q126 q1716) rfl hy_X2_reach rfl ⟨by decide, by decide⟩ rfl zc_0 (by decide) dX2_isPlayed_81 h (fun v9 m10 h => ?_)
    refine g_if_lt 91 dX2_isPlayed_84 (by decide) (fun c => ?_) (fun c => ?_)
    · have h := zite_p h c
      refine g_iconst (v := (0 : Int32)) dX2_isPlayed_91 (by decide) ?_
      refine g_zret dX2_isPlayed_92 hxt rfl ?_
      have e := Option.some.inj h
      exact Kret _ _ e
    · have h := zite_n h c
      refine g_iconst (v := (1 : Int32)) dX2_isPlayed_87 (by decide) ?_
      refine g_goto 92 dX2_isPlayed_88 (by decide) ?_
      refine g_zret dX2_isPlayed_92 hxt rfl ?_
      have e := Option.some.inj h
      exact Kret _ _ e
  have h := zite_n h c3
  rcases Decidable.em (v6 = (4 : Int32)) with c | c4
  · have h := zite_p h c
    refine g_tsw (v := (4 : Int32)) (off := 69) 93 dX2_isPlayed_24 c (by decide) (by decide) (by decide) (by decide) ?_
    refine g_aload_n dX2_isPlayed_93 2 rfl ?_
    refine g_iload_n dX2_isPlayed_94 1 rfl ?_
    refine g_iload_n dX2_isPlayed_95 0 rfl ?_
    refine g_cVMv (rv := fun x : Int32 => Value.int x) [.int v2, .int v4] (fun x0 m0 e0 => ok_X2_down (xl X) g m a0 v2 v4 x0 m0 e0) zc2 (by decide) (lw_V q1843 q1733 q1734 q126 q1735) rfl hy_X2_down rfl ⟨by decide, by decide⟩ rfl zc_0 (by decide) dX2_isPlayed_96 h (fun v11 m12 h => ?_)
    obtain ⟨hn, h⟩ := zbo_e h
    refine g_zret dX2_isPlayed_99 hxt hn ?_
    have e := Option.some.inj h
    exact Kret _ _ e
  have h := zite_n h c4
  rcases Decidable.em (v6 = (5 : Int32)) with c | c5
  · have h := zite_p h c
    refine g_tsw (v := (5 : Int32)) (off := 76) 100 dX2_isPlayed_24 c (by decide) (by decide) (by decide) (by decide) ?_
    refine g_aload_n dX2_isPlayed_100 2 rfl ?_
    refine g_iload_n dX2_isPlayed_101 1 rfl ?_
    refine g_cVMv (rv := fun x : Int32 => Value.int x) [.int v2] (fun x0 m0 e0 => ok_X2_strap (xl X) g m a0 v2 x0 m0 e0) zc2 (by decide) (lw_V q1844 q1741 q1742 q126 q1743) rfl hy_X2_strap rfl ⟨by decide, by decide⟩ rfl zc_0 (by decide) dX2_isPlayed_102 h (fun v13 m14 h => ?_)
    obtain ⟨hn, h⟩ := zbo_e h
    refine g_zret dX2_isPlayed_105 hxt hn ?_
    have e := Option.some.inj h
    exact Kret _ _ e
  have h := zite_n h c5
  rcases Decidable.em (v6 = (6 : Int32)) with c | c6
  · have h := zite_p h c
    refine g_tsw (v := (6 : Int32)) (off := 82) 106 dX2_isPlayed_24 c (by decide) (by decide) (by decide) (by decide) ?_
    refine g_aload_n dX2_isPlayed_106 2 rfl ?_
    refine g_iload_n dX2_isPlayed_107 1 rfl ?_
    refine g_iload_n dX2_isPlayed_108 0 rfl ?_
    refine g_cVMv (rv := fun x : Int32 => Value.int x) [.int v2, .int v4] (fun x0 m0 e0 => ok_X2_swap (xl X) g m a0 v2 v4 x0 m0 e0) zc2 (by decide) (lw_V q1845 q1745 q1746 q126 q1747) rfl hy_X2_swap rfl ⟨by decide, by decide⟩ rfl zc_0 (by decide) dX2_isPlayed_109 h (fun v15 m16 h => ?_)
    obtain ⟨hn, h⟩ := zbo_e h
    refine g_zret dX2_isPlayed_112 hxt hn ?_
    have e := Option.some.inj h
    exact Kret _ _ e
  have h := zite_n h c6
  rcases Decidable.em (v6 = (7 : Int32)) with c | c7
  · have h := zite_p h c
    refine g_tsw (v := (7 : Int32)) (off := 89) 113 dX2_isPlayed_24 c (by decide) (by decide) (by decide) (by decide) ?_
    refine g_aload_n dX2_isPlayed_113 2 rfl ?_
    refine g_iload_n dX2_isPlayed_114 1 rfl ?_
    refine g_cVMv (rv := fun x : Int32 => Value.int x) [.int v2] (fun x0 m0 e0 => ok_X2_arePassed (xl X) g m a0 v2 x0 m0 e0) zc2 (by decide) (lw_V q1756 q1758 qs88 q126 q1759) rfl hy_X2_arePassed rfl ⟨by decide, by decide⟩ rfl zc_0 (by decide) dX2_isPlayed_115 h (fun v17 m18 h => ?_)
    obtain ⟨hn, h⟩ := zbo_e h
    refine g_zret dX2_isPlayed_118 hxt hn ?_
    have e := Option.some.inj h
    exact Kret _ _ e
  have h := zite_n h c7
  refine g_tswG (n := 6) (vs := [(2 : Int32), (3 : Int32), (4 : Int32), (5 : Int32), (6 : Int32), (7 : Int32)]) 119 dX2_isPlayed_24 (List.forall_mem_cons.mpr ⟨c2, List.forall_mem_cons.mpr ⟨c3, List.forall_mem_cons.mpr ⟨c4, List.forall_mem_cons.mpr ⟨c5, List.forall_mem_cons.mpr ⟨c6, List.forall_mem_cons.mpr ⟨c7, fun _ h9 => absurd h9 List.not_mem_nil⟩⟩⟩⟩⟩⟩) (by decide) (by decide) (by decide) ?_
  refine g_iconst (v := (1 : Int32)) dX2_isPlayed_119 (by decide) ?_
  refine g_zret dX2_isPlayed_120 hxt rfl ?_
  have e := Option.some.inj h
  exact Kret _ _ e
/-! QuiverKinModel.played -/
def b_X2_played_21 (g : zGd) (a0 : Option Nat) (a1 : Int32) : Int32 × zMm → Option ((((Int32 × zMm) ⊕ (zMm))) ⊕ (Int32 × zMm)) := fun (v7, m8) =>
(zgr g m8 2 2 a0).bind fun r9 =>
(zald 101 g m8 r9 ((681 : Int32) * a1)).bind fun v10 =>
if v10 ≤ v7 then (some (.inl (.inr m8)))
else ((zrc g 2 a0 (f_X2_isPlayed g m8 a0 ((((681 : Int32) * a1) + (1 : Int32)) + ((3 : Int32) * v7)))).bind fun (v11, m12) =>
if v11 = 0 then (some (.inl (.inl ((v7, m12)))))
else (zlt (v7 + (1 : Int32)) fun v13 =>
some (.inr (v13, m12))))
def f_X2_played (g : zGd) (m : zMm) (a0 : Option Nat) (a1 : Int32) : Option (Int32 × zMm) :=
(zgr g m 2 0 a0).bind fun r1 =>
(zald 101 g m r1 (1 : Int32)).bind fun v2 =>
(f_X2_isIn a1 (0 : Int32) (v2 - (1 : Int32))).bind fun v3 =>
if v3 = 0 then (some (((-2 : Int32), m)))
else (zEx (σ := zMm) (zLoop (b_X2_played_21 g a0 a1) zFuel ((0 : Int32), m)) fun m5 =>
some (((-1 : Int32), m5)))
theorem hy_X2_played : zHy yX2_played 1 := ⟨by decide, by decide, by decide +kernel⟩
set_option maxHeartbeats 4000000 in
theorem ok_X2_played (l : Launch) (g : zGd) (m : zMm) (a0 : Option Nat) (a1 : Int32) (z0 : Int32) (m0 : zMm) (h : f_X2_played g m a0 a1 = some (z0, m0)) : zCT l yX2_played cX2_played 3 (some .int) 11 251 g m [va_rf a0, .int a1] (some (.int z0)) g m0 := by
  refine zCT.of (own := "QuiverKinModel") (mn := "played") (by decide +kernel) rfl rfl (zla_r (zla_i zla_0)) (zls_r (zls_i zls_0)) (by decide) (fun X hxl hxg hxf hxt hxr hxn => ?_)
  have Kret : ∀ (y0 : Int32) (y1 : zMm), (y0, y1) = (z0, m0) → zRe X g y1 (some (.int y0)) := by
    intro y0 y1 e; cases e; exact ⟨hxf, hxr, hxn⟩
  subst hxl
  show zG X cX2_played 3 "QuiverKinModel" "played" 11 251 0 [(0, va_rf a0), (1, .int a1)] [] g m
  unfold f_X2_played at h
  refine g_iload_n dX2_played_0 1 rfl ?_
  refine g_iconst (v := (0 : Int32)) dX2_played_1 (by decide) ?_
  refine g_aload_n dX2_played_2 0 rfl ?_
  refine gf_r zfd_2_0 q1410  (fun _ h9 => h9) dX2_played_3 h (fun r1 h => ?_)
  refine g_iconst (v := (1 : Int32)) dX2_played_6 (by decide) ?_
  refine g_iald dX2_played_7 h (fun v2 h => ?_)
  refine g_iconst (v := (1 : Int32)) dX2_played_8 (by decide) ?_
  refine g_isub dX2_played_9 ?_
  refine g_cSRv (rv := fun x : Int32 => Value.int x) [.int a1, .int (0 : Int32), .int (v2 - (1 : Int32))] (fun x0 e0 => ok_X2_isIn (xl X) g m a1 (0 : Int32) (v2 - (1 : Int32)) x0 e0) (lw_S q1534 q1535 q126 q1536) hy_X2_isIn rfl ⟨by decide, by decide⟩ rfl zc_0 (by decide) dX2_played_10 h (fun v3 h => ?_)
  refine g_if_ne 19 dX2_played_13 (by decide) (fun c => ?_) (fun c => ?_)
  · have h := zite_n h c
    refine g_iconst (v := (0 : Int32)) dX2_played_19 (by decide) ?_
    refine g_istore_n [(2, .int (0 : Int32)), (0, va_rf a0), (1, .int a1)] dX2_played_20 (by decide) (zf_r (zf_i zf_0)) rfl ?_
    obtain ⟨o4, h1, hl4, hr4⟩ := zEx_e h
    have K4 : ∀ (m5 : zMm), o4 = .inr m5 → zG X cX2_played 3 "QuiverKinModel" "played" 11 251 61 [] [] g m5 := by
      intro m5 e
      have h := hr4 _ e
      refine g_iconst (v := (-1 : Int32)) dX2_played_61 (by decide) ?_
      refine g_iret dX2_played_62 hxt ?_
      have e := Option.some.inj h
      exact Kret _ _ e
    refine zG.sub [1, 2, 0] rfl ?_
    refine zLoop_ok (Φ := (fun (q : Int32 × zMm) => match q with | (v7, m8) => zG X cX2_played 3 "QuiverKinModel" "played" 11 251 21 [(0, va_rf a0), (1, .int a1), (2, .int v7)] [] g m8)) o4 ?_ zFuel _ h1
    rintro ⟨v7, m8⟩ x6 h hl6 hr6
    unfold b_X2_played_21 at h
    have K6 : ∀ (v7 : Int32) (m8 : zMm), x6 = .inr (v7, m8) → zG X cX2_played 3 "QuiverKinModel" "played" 11 251 21 [(0, va_rf a0), (1, .int a1), (2, .int v7)] [] g m8 := by
      intro v7 m8 e
      exact hr6 _ e
    show zG X cX2_played 3 "QuiverKinModel" "played" 11 251 21 [(0, va_rf a0), (1, .int a1), (2, .int v7)] [] g m8
    refine g_iload_n dX2_played_21 2 rfl ?_
    refine g_aload_n dX2_played_22 0 rfl ?_
    refine gf_r zfd_2_2 q1412  (fun _ h9 => h9) dX2_played_23 h (fun r9 h => ?_)
    refine g_sipush (v := (681 : Int32)) dX2_played_26 (by decide) ?_
    refine g_iload_n dX2_played_29 1 rfl ?_
    refine g_imul dX2_played_30 ?_
    refine g_iald dX2_played_31 h (fun v10 h => ?_)
    refine g_icmp_ge 61 dX2_played_32 (by decide) (fun c => ?_) (fun c => ?_)
    · have h := zite_p h c
      refine zG.sub [] rfl ?_
      have e := Option.some.inj h
      have e := hl6 _ e.symm
      exact K4 _ e.symm
    · have h := zite_n h c
      refine g_aload_n dX2_played_35 0 rfl ?_
      refine g_sipush (v := (681 : Int32)) dX2_played_36 (by decide) ?_
      refine g_iload_n dX2_played_39 1 rfl ?_
      refine g_imul dX2_played_40 ?_
      refine g_iconst (v := (1 : Int32)) dX2_played_41 (by decide) ?_
      refine g_iadd dX2_played_42 ?_
      refine g_iconst (v := (3 : Int32)) dX2_played_43 (by decide) ?_
      refine g_iload_n dX2_played_44 2 rfl ?_
      refine g_imul dX2_played_45 ?_
      refine g_iadd dX2_played_46 ?_
      refine g_cVMv (rv := fun x : Int32 => Value.int x) [.int ((((681 : Int32) * a1) + (1 : Int32)) + ((3 : Int32) * v7))] (fun x0 m0 e0 => ok_X2_isPlayed (xl X) g m8 a0 ((((681 : Int32) * a1) + (1 : Int32)) + ((3 : Int32) * v7)) x0 m0 e0) zc2 (by decide) (lw_V q1837 q1839 qs103 q126 q1840) rfl hy_X2_isPlayed rfl ⟨by decide, by decide⟩ rfl zc_0 (by decide) dX2_played_47 h (fun v11 m12 h => ?_)
      refine g_if_ne 55 dX2_played_50 (by decide) (fun c => ?_) (fun c => ?_)
      · have h := zite_n h c
        refine g_iinc (v := (1 : Int32)) [(0, va_rf a0), (1, .int a1)] dX2_played_55 2 rfl (by decide) (by decide) (zf_r (zf_i (zf_i zf_0))) rfl h (fun v13 h => ?_)
        refine g_goto 21 dX2_played_58 (by decide) ?_
        refine zG.sub [1, 2, 0] rfl ?_
        have e := Option.some.inj h
        exact K6 _ _ e.symm
      · have h := zite_p h c
        refine g_iload_n dX2_played_53 2 rfl ?_
        refine g_iret dX2_played_54 hxt ?_
        have e := Option.some.inj h
        have e := hl6 _ e.symm
        have e := hl4 _ e.symm
        exact Kret _ _ e
  · have h := zite_p h c
    refine g_bipush (v := (-2 : Int32)) dX2_played_16 (by decide) ?_
    refine g_iret dX2_played_18 hxt ?_
    have e := Option.some.inj h
    exact Kret _ _ e
/-! QuiverKinModel.happensTo -/
def f_X2_happensTo (g : zGd) (m : zMm) (a0 : Option Nat) (a1 : Int32) (a2 : Int32) : Option (zMm) :=
if (zrem a2 (6 : Int32)) = (0 : Int32) then ((zrc g 2 a0 (f_X2_isStrapped g m a0 a1)).bind fun v1 =>
if v1 = 0 then ((zrc g 2 a0 (f_X2_more g m a0 a1)).bind fun m2 =>
some (m2))
else (some (m)))
else if (zrem a2 (6 : Int32)) = (1 : Int32) then ((zrc g 2 a0 (f_X2_canDown g m a0 a1 ((1 : Int32) + (zrem a2 (3 : Int32))))).bind fun v3 =>
if v3 = 0 then (some (m))
else ((zgr g m 2 0 a0).bind fun r4 =>
zlt ((11 : Int32) + a1) fun v5 =>
(zald 101 g m r4 v5).bind fun v6 =>
(zast 101 g m r4 v5 (v6 - ((1 : Int32) + (zrem a2 (3 : Int32))))).bind fun m7 =>
some (m7)))
else if (zrem a2 (6 : Int32)) = (2 : Int32) then (if (zrem a2 (4 : Int32)) = (2 : Int32) then ((zgr g m 2 0 a0).bind fun r8 =>
(zald 101 g m r8 (0 : Int32)).bind fun v9 =>
if v9 ≤ (1 : Int32) then (some (m))
else ((zgr g m 2 0 a0).bind fun r10 =>
(zald 101 g m r10 (0 : Int32)).bind fun v11 =>
(zmod (a1 + (1 : Int32)) v11).bind fun v12 =>
(zrc g 2 a0 (f_X2_swapNow g m a0 a1 v12)).bind fun m13 =>
some (m13)))
else (some (m)))
else (if (zrem a2 (4 : Int32)) = (1 : Int32) then ((zgr g m 2 0 a0).bind fun r14 =>
(zald 101 g m r14 (10 : Int32)).bind fun v15 =>
(zast 101 g m r14 (10 : Int32) (v15 ^^^ (zshl (1 : Int32) a1))).bind fun m16 =>
some (m16))
else (some (m)))
theorem hy_X2_happensTo : zHy yX2_happensTo 2 := ⟨by decide, by decide, by decide +kernel⟩
set_option maxHeartbeats 4000000 in
theorem ok_X2_happensTo (l : Launch) (g : zGd) (m : zMm) (a0 : Option Nat) (a1 : Int32) (a2 : Int32) (m0 : zMm) (h : f_X2_happensTo g m a0 a1 a2 = some m0) : zCT l yX2_happensTo cX2_happensTo 3 none 4 85 g m [va_rf a0, .int a1, .int a2] none g m0 := by
  refine zCT.of (own := "QuiverKinModel") (mn := "happensTo") (by decide +kernel) rfl rfl (zla_r (zla_i (zla_i zla_0))) (zls_r (zls_i (zls_i zls_0))) (by decide) (fun X hxl hxg hxf hxt hxr hxn => ?_)
  have Kret : ∀ (y0 : zMm), y0 = m0 → zRe X g y0 none := by
    intro y0 e; cases e; exact ⟨hxf, hxr, hxn⟩
  subst hxl
  show zG X cX2_happensTo 3 "QuiverKinModel" "happensTo" 4 85 0 [(0, va_rf a0), (1, .int a1), (2, .int a2)] [] g m
  unfold f_X2_happensTo at h
  refine g_iload_n dX2_happensTo_0 2 rfl ?_
  refine g_bipush (v := (6 : Int32)) dX2_happensTo_1 (by decide) ?_
  refine g_iremC dX2_happensTo_3 (by decide) ?_
  rcases Decidable.em ((zrem a2 (6 : Int32)) = (0 : Int32)) with c | c0
  · have h := zite_p h c
    refine g_tsw (v := (0 : Int32)) (off := 28) 32 dX2_happensTo_4 c (by decide) (by decide) (by decide) (by decide) ?_
    refine g_aload_n dX2_happensTo_32 0 rfl ?_
    refine g_iload_n dX2_happensTo_33 1 rfl ?_
    refine g_cVRv (rv := fun x : Int32 => Value.int x) [.int a1] (fun x0 e0 => ok_X2_isStrapped (xl X) g m a0 a1 x0 e0) zc2 (by decide) (lw_V q1717 q1719 qs83 q126 q1720) rfl hy_X2_isStrapped rfl ⟨by decide, by decide⟩ rfl zc_0 (by decide) dX2_happensTo_34 h (fun v1 h => ?_)
    refine g_if_ne 136 dX2_happensTo_37 (by decide) (fun c => ?_) (fun c => ?_)
    · have h := zite_n h c
      refine g_vret dX2_happensTo_136 hxt ?_
      have e := Option.some.inj h
      exact Kret _ e
    · have h := zite_p h c
      refine g_aload_n dX2_happensTo_40 0 rfl ?_
      refine g_iload_n dX2_happensTo_41 1 rfl ?_
      refine g_cVMn [.int a1] (fun m0 e0 => ok_X2_more (xl X) g m a0 a1 m0 e0) zc2 (by decide) (lw_V q1725 q1727 qs85 q126 q1728) rfl hy_X2_more rfl ⟨by decide, by decide⟩ rfl zc_0 (by decide) dX2_happensTo_42 h (fun m2 h => ?_)
      refine g_goto 136 dX2_happensTo_45 (by decide) ?_
      refine g_vret dX2_happensTo_136 hxt ?_
      have e := Option.some.inj h
      exact Kret _ e
  have h := zite_n h c0
  rcases Decidable.em ((zrem a2 (6 : Int32)) = (1 : Int32)) with c | c1
  · have h := zite_p h c
    refine g_tsw (v := (1 : Int32)) (off := 44) 48 dX2_happensTo_4 c (by decide) (by decide) (by decide) (by decide) ?_
    refine g_aload_n dX2_happensTo_48 0 rfl ?_
    refine g_iload_n dX2_happensTo_49 1 rfl ?_
    refine g_iconst (v := (1 : Int32)) dX2_happensTo_50 (by decide) ?_
    refine g_iload_n dX2_happensTo_51 2 rfl ?_
    refine g_iconst (v := (3 : Int32)) dX2_happensTo_52 (by decide) ?_
    refine g_iremC dX2_happensTo_53 (by decide) ?_
    refine g_iadd dX2_happensTo_54 ?_
    refine g_cVRv (rv := fun x : Int32 => Value.int x) [.int a1, .int ((1 : Int32) + (zrem a2 (3 : Int32)))] (fun x0 e0 => ok_X2_canDown (xl X) g m a0 a1 ((1 : Int32) + (zrem a2 (3 : Int32))) x0 e0) zc2 (by decide) (lw_V q1736 q1738 qs86 q126 q1739) rfl hy_X2_canDown rfl ⟨by decide, by decide⟩ rfl zc_0 (by decide) dX2_happensTo_55 h (fun v3 h => ?_)
    refine g_if_eq 136 dX2_happensTo_58 (by decide) (fun c => ?_) (fun c => ?_)
    · have h := zite_p h c
      refine g_vret dX2_happensTo_136 hxt ?_
      have e := Option.some.inj h
      exact Kret _ e
    · have h := zite_n h c
      refine g_aload_n dX2_happensTo_61 0 rfl ?_
      refine gf_r zfd_2_0 q1410  (fun _ h9 => h9) dX2_happensTo_62 h (fun r4 h => ?_)
      refine g_bipush (v := (11 : Int32)) dX2_happensTo_65 (by decide) ?_
      refine g_iload_n dX2_happensTo_67 1 rfl ?_
      refine g_iadd dX2_happensTo_68 ?_
      refine g_leti h (fun v5 h => ?_)
      refine g_dup2 dX2_happensTo_69 rfl (zcat_r _) ?_
      refine g_iald dX2_happensTo_70 h (fun v6 h => ?_)
      refine g_iconst (v := (1 : Int32)) dX2_happensTo_71 (by decide) ?_
      refine g_iload_n dX2_happensTo_72 2 rfl ?_
      refine g_iconst (v := (3 : Int32)) dX2_happensTo_73 (by decide) ?_
      refine g_iremC dX2_happensTo_74 (by decide) ?_
      refine g_iadd dX2_happensTo_75 ?_
      refine g_isub dX2_happensTo_76 ?_
      refine g_iast dX2_happensTo_77 h (fun m7 h => ?_)
      refine g_goto 136 dX2_happensTo_78 (by decide) ?_
      refine g_vret dX2_happensTo_136 hxt ?_
      have e := Option.some.inj h
      exact Kret _ e
  have h := zite_n h c1
  rcases Decidable.em ((zrem a2 (6 : Int32)) = (2 : Int32)) with c | c2
  · have h := zite_p h c
    refine g_tsw (v := (2 : Int32)) (off := 77) 81 dX2_happensTo_4 c (by decide) (by decide) (by decide) (by decide) ?_
    refine g_iload_n dX2_happensTo_81 2 rfl ?_
    refine g_iconst (v := (4 : Int32)) dX2_happensTo_82 (by decide) ?_
    refine g_iremC dX2_happensTo_83 (by decide) ?_
    refine g_iconst (v := (2 : Int32)) dX2_happensTo_84 (by decide) ?_
    refine g_icmp_ne 136 dX2_happensTo_85 (by decide) (fun c => ?_) (fun c => ?_)
    · have h := zite_n h c
      refine g_vret dX2_happensTo_136 hxt ?_
      have e := Option.some.inj h
      exact Kret _ e
    · have h := zite_p h c
      refine g_aload_n dX2_happensTo_88 0 rfl ?_
      refine gf_r zfd_2_0 q1410  (fun _ h9 => h9) dX2_happensTo_89 h (fun r8 h => ?_)
      refine g_iconst (v := (0 : Int32)) dX2_happensTo_92 (by decide) ?_
      refine g_iald dX2_happensTo_93 h (fun v9 h => ?_)
      refine g_iconst (v := (1 : Int32)) dX2_happensTo_94 (by decide) ?_
      refine g_icmp_le 136 dX2_happensTo_95 (by decide) (fun c => ?_) (fun c => ?_)
      · have h := zite_p h c
        refine g_vret dX2_happensTo_136 hxt ?_
        have e := Option.some.inj h
        exact Kret _ e
      · have h := zite_n h c
        refine g_aload_n dX2_happensTo_98 0 rfl ?_
        refine g_iload_n dX2_happensTo_99 1 rfl ?_
        refine g_iload_n dX2_happensTo_100 1 rfl ?_
        refine g_iconst (v := (1 : Int32)) dX2_happensTo_101 (by decide) ?_
        refine g_iadd dX2_happensTo_102 ?_
        refine g_aload_n dX2_happensTo_103 0 rfl ?_
        refine gf_r zfd_2_0 q1410  (fun _ h9 => h9) dX2_happensTo_104 h (fun r10 h => ?_)
        refine g_iconst (v := (0 : Int32)) dX2_happensTo_107 (by decide) ?_
        refine g_iald dX2_happensTo_108 h (fun v11 h => ?_)
        refine g_irem dX2_happensTo_109 h (fun v12 h => ?_)
        refine g_cVMn [.int a1, .int v12] (fun m0 e0 => ok_X2_swapNow (xl X) g m a0 a1 v12 m0 e0) zc2 (by decide) (lw_V q1748 q1750 qs87 q126 q1751) rfl hy_X2_swapNow rfl ⟨by decide, by decide⟩ rfl zc_0 (by decide) dX2_happensTo_110 h (fun m13 h => ?_)
        refine g_goto 136 dX2_happensTo_113 (by decide) ?_
        refine g_vret dX2_happensTo_136 hxt ?_
        have e := Option.some.inj h
        exact Kret _ e
  have h := zite_n h c2
  refine g_tswG (n := 3) (vs := [(0 : Int32), (1 : Int32), (2 : Int32)]) 116 dX2_happensTo_4 (List.forall_mem_cons.mpr ⟨c0, List.forall_mem_cons.mpr ⟨c1, List.forall_mem_cons.mpr ⟨c2, fun _ h9 => absurd h9 List.not_mem_nil⟩⟩⟩) (by decide) (by decide) (by decide) ?_
  refine g_iload_n dX2_happensTo_116 2 rfl ?_
  refine g_iconst (v := (4 : Int32)) dX2_happensTo_117 (by decide) ?_
  refine g_iremC dX2_happensTo_118 (by decide) ?_
  refine g_iconst (v := (1 : Int32)) dX2_happensTo_119 (by decide) ?_
  refine g_icmp_ne 136 dX2_happensTo_120 (by decide) (fun c => ?_) (fun c => ?_)
  · have h := zite_n h c
    refine g_vret dX2_happensTo_136 hxt ?_
    have e := Option.some.inj h
    exact Kret _ e
  · have h := zite_p h c
    refine g_aload_n dX2_happensTo_123 0 rfl ?_
    refine gf_r zfd_2_0 q1410  (fun _ h9 => h9) dX2_happensTo_124 h (fun r14 h => ?_)
    refine g_bipush (v := (10 : Int32)) dX2_happensTo_127 (by decide) ?_
    refine g_dup2 dX2_happensTo_129 rfl (zcat_r _) ?_
    refine g_iald dX2_happensTo_130 h (fun v15 h => ?_)
    refine g_iconst (v := (1 : Int32)) dX2_happensTo_131 (by decide) ?_
    refine g_iload_n dX2_happensTo_132 1 rfl ?_
    refine g_ishl dX2_happensTo_133 ?_
    refine g_ixor dX2_happensTo_134 ?_
    refine g_iast dX2_happensTo_135 h (fun m16 h => ?_)
    refine g_vret dX2_happensTo_136 hxt ?_
    have e := Option.some.inj h
    exact Kret _ e
/-! QuiverKinModel.years -/
def b_X2_years_43 (g : zGd) (a0 : Option Nat) (a2 : Int32) : Int32 × zMm → Option ((zMm) ⊕ (Int32 × zMm)) := fun (v9, m10) =>
if a2 ≤ v9 then (some (.inl m10))
else ((zgr g m10 2 0 a0).bind fun r11 =>
(zald 101 g m10 r11 (8 : Int32)).bind fun v12 =>
(zrc g 2 a0 (f_X2_anew g m10 a0)).bind fun m13 =>
((if (4 : Int32) ≤ (zrem v12 (6 : Int32)) then (some (m13))
else ((zgr g m13 2 0 a0).bind fun r16 =>
(zald 101 g m13 r16 (0 : Int32)).bind fun v17 =>
if v17 ≤ 0 then (some (m13))
else ((zgr g m13 2 0 a0).bind fun r18 =>
(zald 101 g m13 r18 (0 : Int32)).bind fun v19 =>
(zmod (v12 / (6 : Int32)) v19).bind fun v20 =>
(zrc g 2 a0 (f_X2_happensTo g m13 a0 v20 v12)).bind fun m21 =>
some (m21))) : Option (zMm))).bind fun m15 =>
if (zrem v12 (6 : Int32)) ≤ (3 : Int32) then (zlt (v9 + (1 : Int32)) fun v22 =>
some (.inr (v22, m15)))
else ((zgr g m15 2 0 a0).bind fun r23 =>
(zald 101 g m15 r23 (7 : Int32)).bind fun v24 =>
if (9999 : Int32) ≤ v24 then (zlt (v9 + (1 : Int32)) fun v25 =>
some (.inr (v25, m15)))
else ((zrc g 2 a0 (f_X2_pass g m15 a0)).bind fun m26 =>
zlt (v9 + (1 : Int32)) fun v27 =>
some (.inr (v27, m26)))))
def f_X2_years (g : zGd) (m : zMm) (a0 : Option Nat) (a1 : Int32) (a2 : Int32) : Option (Int32 × zMm) :=
(f_X2_isIn a1 (0 : Int32) (9999 : Int32)).bind fun v1 =>
if v1 = 0 then (some (((-1 : Int32), m)))
else ((f_X2_isIn a2 (1 : Int32) (40 : Int32)).bind fun v2 =>
if v2 = 0 then (some (((-1 : Int32), m)))
else ((zrc g 2 a0 (f_X2_keep g m a0)).bind fun m3 =>
(zgr g m3 2 0 a0).bind fun r4 =>
(zast 101 g m3 r4 (8 : Int32) ((a1 * (2 : Int32)) + (421 : Int32))).bind fun m5 =>
(zLoop (b_X2_years_43 g a0 a2) zFuel ((0 : Int32), m5)).bind fun m7 =>
(zgr g m7 2 0 a0).bind fun r28 =>
(zald 101 g m7 r28 (7 : Int32)).bind fun v29 =>
some ((v29, m7))))
theorem hy_X2_years : zHy yX2_years 2 := ⟨by decide, by decide, by decide +kernel⟩
set_option maxHeartbeats 4000000 in
theorem ok_X2_years (l : Launch) (g : zGd) (m : zMm) (a0 : Option Nat) (a1 : Int32) (a2 : Int32) (z0 : Int32) (m0 : zMm) (h : f_X2_years g m a0 a1 a2 = some (z0, m0)) : zCT l yX2_years cX2_years 5 (some .int) 9 206 g m [va_rf a0, .int a1, .int a2] (some (.int z0)) g m0 := by
  refine zCT.of (own := "QuiverKinModel") (mn := "years") (by decide +kernel) rfl rfl (zla_r (zla_i (zla_i zla_0))) (zls_r (zls_i (zls_i zls_0))) (by decide) (fun X hxl hxg hxf hxt hxr hxn => ?_)
  have Kret : ∀ (y0 : Int32) (y1 : zMm), (y0, y1) = (z0, m0) → zRe X g y1 (some (.int y0)) := by
    intro y0 y1 e; cases e; exact ⟨hxf, hxr, hxn⟩
  subst hxl
  show zG X cX2_years 5 "QuiverKinModel" "years" 9 206 0 [(0, va_rf a0), (1, .int a1), (2, .int a2)] [] g m
  unfold f_X2_years at h
  refine g_iload_n dX2_years_0 1 rfl ?_
  refine g_iconst (v := (0 : Int32)) dX2_years_1 (by decide) ?_
  refine g_sipush (v := (9999 : Int32)) dX2_years_2 (by decide) ?_
  refine g_cSRv (rv := fun x : Int32 => Value.int x) [.int a1, .int (0 : Int32), .int (9999 : Int32)] (fun x0 e0 => ok_X2_isIn (xl X) g m a1 (0 : Int32) (9999 : Int32) x0 e0) (lw_S q1534 q1535 q126 q1536) hy_X2_isIn rfl ⟨by decide, by decide⟩ rfl zc_0 (by decide) dX2_years_5 h (fun v1 h => ?_)
  refine g_if_eq 21 dX2_years_8 (by decide) (fun c => ?_) (fun c => ?_)
  · have h := zite_p h c
    refine g_iconst (v := (-1 : Int32)) dX2_years_21 (by decide) ?_
    refine g_iret dX2_years_22 hxt ?_
    have e := Option.some.inj h
    exact Kret _ _ e
  · have h := zite_n h c
    refine g_iload_n dX2_years_11 2 rfl ?_
    refine g_iconst (v := (1 : Int32)) dX2_years_12 (by decide) ?_
    refine g_bipush (v := (40 : Int32)) dX2_years_13 (by decide) ?_
    refine g_cSRv (rv := fun x : Int32 => Value.int x) [.int a2, .int (1 : Int32), .int (40 : Int32)] (fun x0 e0 => ok_X2_isIn (xl X) g m a2 (1 : Int32) (40 : Int32) x0 e0) (lw_S q1534 q1535 q126 q1536) hy_X2_isIn rfl ⟨by decide, by decide⟩ rfl zc_0 (by decide) dX2_years_15 h (fun v2 h => ?_)
    refine g_if_ne 23 dX2_years_18 (by decide) (fun c => ?_) (fun c => ?_)
    · have h := zite_n h c
      refine g_aload_n dX2_years_23 0 rfl ?_
      refine g_cVMn [] (fun m0 e0 => ok_X2_keep (xl X) g m a0 m0 e0) zc2 (by decide) (lw_V q1721 q1723 qs84 q126 q1724) rfl hy_X2_keep rfl ⟨by decide, by decide⟩ rfl zc_0 (by decide) dX2_years_24 h (fun m3 h => ?_)
      refine g_aload_n dX2_years_27 0 rfl ?_
      refine gf_r zfd_2_0 q1410  (fun _ h9 => h9) dX2_years_28 h (fun r4 h => ?_)
      refine g_bipush (v := (8 : Int32)) dX2_years_31 (by decide) ?_
      refine g_iload_n dX2_years_33 1 rfl ?_
      refine g_iconst (v := (2 : Int32)) dX2_years_34 (by decide) ?_
      refine g_imul dX2_years_35 ?_
      refine g_sipush (v := (421 : Int32)) dX2_years_36 (by decide) ?_
      refine g_iadd dX2_years_39 ?_
      refine g_iast dX2_years_40 h (fun m5 h => ?_)
      refine g_iconst (v := (0 : Int32)) dX2_years_41 (by decide) ?_
      refine g_istore_n [(3, .int (0 : Int32)), (0, va_rf a0), (1, .int a1), (2, .int a2)] dX2_years_42 (by decide) (zf_r (zf_i (zf_i zf_0))) rfl ?_
      obtain ⟨o6, h1, h2⟩ := zB_e h
      have K6 : ∀ (m7 : zMm), o6 = m7 → zG X cX2_years 5 "QuiverKinModel" "years" 9 206 129 [(0, va_rf a0)] [] g m7 := by
        intro m7 e
        rw [e] at h2
        have h := h2
        refine g_aload_n dX2_years_129 0 rfl ?_
        refine gf_r zfd_2_0 q1410  (fun _ h9 => h9) dX2_years_130 h (fun r28 h => ?_)
        refine g_bipush (v := (7 : Int32)) dX2_years_133 (by decide) ?_
        refine g_iald dX2_years_135 h (fun v29 h => ?_)
        refine g_iret dX2_years_136 hxt ?_
        have e := Option.some.inj h
        exact Kret _ _ e
      refine zG.sub [1, 3, 0] rfl ?_
      refine zLoop_ok (Φ := (fun (q : Int32 × zMm) => match q with | (v9, m10) => zG X cX2_years 5 "QuiverKinModel" "years" 9 206 43 [(0, va_rf a0), (2, .int a2), (3, .int v9)] [] g m10)) o6 ?_ zFuel _ h1
      rintro ⟨v9, m10⟩ x8 h hl8 hr8
      unfold b_X2_years_43 at h
      have K8 : ∀ (v9 : Int32) (m10 : zMm), x8 = .inr (v9, m10) → zG X cX2_years 5 "QuiverKinModel" "years" 9 206 43 [(0, va_rf a0), (2, .int a2), (3, .int v9)] [] g m10 := by
        intro v9 m10 e
        exact hr8 _ e
      show zG X cX2_years 5 "QuiverKinModel" "years" 9 206 43 [(0, va_rf a0), (2, .int a2), (3, .int v9)] [] g m10
      refine g_iload_n dX2_years_43 2 rfl ?_
      refine g_iload_n dX2_years_44 1 rfl ?_
      refine g_icmp_ge 129 dX2_years_45 (by decide) (fun c => ?_) (fun c => ?_)
      · have h := zite_p h c
        refine zG.sub [0] rfl ?_
        have e := Option.some.inj h
        have e := hl8 _ e.symm
        exact K6 _ e.symm
      · have h := zite_n h c
        refine g_aload_n dX2_years_48 0 rfl ?_
        refine gf_r zfd_2_0 q1410  (fun _ h9 => h9) dX2_years_49 h (fun r11 h => ?_)
        refine g_bipush (v := (8 : Int32)) dX2_years_52 (by decide) ?_
        refine g_iald dX2_years_54 h (fun v12 h => ?_)
        refine g_istore [(4, .int v12), (0, va_rf a0), (2, .int a2), (3, .int v9)] dX2_years_55 (by decide) (zf_r (zf_i (zf_i zf_0))) rfl ?_
        refine g_aload_n dX2_years_57 1 rfl ?_
        refine g_cVMn [] (fun m0 e0 => ok_X2_anew (xl X) g m10 a0 m0 e0) zc2 (by decide) (lw_V q1772 q1774 qs92 q126 q1775) rfl hy_X2_anew rfl ⟨by decide, by decide⟩ rfl zc_0 (by decide) dX2_years_58 h (fun m13 h => ?_)
        refine g_iload dX2_years_61 0 rfl ?_
        refine g_bipush (v := (6 : Int32)) dX2_years_63 (by decide) ?_
        refine g_iremC dX2_years_65 (by decide) ?_
        refine g_iconst (v := (4 : Int32)) dX2_years_66 (by decide) ?_
        obtain ⟨o14, h1, h2⟩ := zB_e h
        have K14 : ∀ (m15 : zMm), o14 = m15 → zG X cX2_years 5 "QuiverKinModel" "years" 9 206 97 [(0, va_rf a0), (2, .int a2), (3, .int v9), (4, .int v12)] [] g m15 := by
          intro m15 e
          rw [e] at h2
          have h := h2
          refine g_iload dX2_years_97 3 rfl ?_
          refine g_bipush (v := (6 : Int32)) dX2_years_99 (by decide) ?_
          refine g_iremC dX2_years_101 (by decide) ?_
          refine g_iconst (v := (3 : Int32)) dX2_years_102 (by decide) ?_
          refine g_icmp_le 123 dX2_years_103 (by decide) (fun c => ?_) (fun c => ?_)
          · have h := zite_p h c
            refine g_iinc (v := (1 : Int32)) [(0, va_rf a0), (2, .int a2), (4, .int v12)] dX2_years_123 2 rfl (by decide) (by decide) (zf_r (zf_i (zf_i (zf_i zf_0)))) rfl h (fun v22 h => ?_)
            refine g_goto 43 dX2_years_126 (by decide) ?_
            refine zG.sub [1, 2, 0] rfl ?_
            have e := Option.some.inj h
            exact K8 _ _ e.symm
          · have h := zite_n h c
            refine g_aload_n dX2_years_106 0 rfl ?_
            refine gf_r zfd_2_0 q1410  (fun _ h9 => h9) dX2_years_107 h (fun r23 h => ?_)
            refine g_bipush (v := (7 : Int32)) dX2_years_110 (by decide) ?_
            refine g_iald dX2_years_112 h (fun v24 h => ?_)
            refine g_sipush (v := (9999 : Int32)) dX2_years_113 (by decide) ?_
            refine g_icmp_ge 123 dX2_years_116 (by decide) (fun c => ?_) (fun c => ?_)
            · have h := zite_p h c
              refine g_iinc (v := (1 : Int32)) [(0, va_rf a0), (2, .int a2), (4, .int v12)] dX2_years_123 2 rfl (by decide) (by decide) (zf_r (zf_i (zf_i (zf_i zf_0)))) rfl h (fun v25 h => ?_)
              refine g_goto 43 dX2_years_126 (by decide) ?_
              refine zG.sub [1, 2, 0] rfl ?_
              have e := Option.some.inj h
              exact K8 _ _ e.symm
            · have h := zite_n h c
              refine g_aload_n dX2_years_119 0 rfl ?_
              refine g_cVMn [] (fun m0 e0 => ok_X2_pass (xl X) g m15 a0 m0 e0) zc2 (by decide) (lw_V q1760 q1762 qs89 q126 q1763) rfl hy_X2_pass rfl ⟨by decide, by decide⟩ rfl zc_0 (by decide) dX2_years_120 h (fun m26 h => ?_)
              refine g_iinc (v := (1 : Int32)) [(0, va_rf a0), (2, .int a2), (4, .int v12)] dX2_years_123 2 rfl (by decide) (by decide) (zf_r (zf_i (zf_i (zf_i zf_0)))) rfl h (fun v27 h => ?_)
              refine g_goto 43 dX2_years_126 (by decide) ?_
              refine zG.sub [1, 2, 0] rfl ?_
              have e := Option.some.inj h
              exact K8 _ _ e.symm
        have h := h1
        refine g_icmp_ge 97 dX2_years_67 (by decide) (fun c => ?_) (fun c => ?_)
        · have h := zite_p h c
          refine zG.sub [1, 2, 3, 0] rfl ?_
          have e := Option.some.inj h
          exact K14 _ e.symm
        · have h := zite_n h c
          refine g_aload_n dX2_years_70 1 rfl ?_
          refine gf_r zfd_2_0 q1410  (fun _ h9 => h9) dX2_years_71 h (fun r16 h => ?_)
          refine g_iconst (v := (0 : Int32)) dX2_years_74 (by decide) ?_
          refine g_iald dX2_years_75 h (fun v17 h => ?_)
          refine g_if_le 97 dX2_years_76 (by decide) (fun c => ?_) (fun c => ?_)
          · have h := zite_p h c
            refine zG.sub [1, 2, 3, 0] rfl ?_
            have e := Option.some.inj h
            exact K14 _ e.symm
          · have h := zite_n h c
            refine g_aload_n dX2_years_79 1 rfl ?_
            refine g_iload dX2_years_80 0 rfl ?_
            refine g_bipush (v := (6 : Int32)) dX2_years_82 (by decide) ?_
            refine g_idivC dX2_years_84 (by decide) ?_
            refine g_aload_n dX2_years_85 1 rfl ?_
            refine gf_r zfd_2_0 q1410  (fun _ h9 => h9) dX2_years_86 h (fun r18 h => ?_)
            refine g_iconst (v := (0 : Int32)) dX2_years_89 (by decide) ?_
            refine g_iald dX2_years_90 h (fun v19 h => ?_)
            refine g_irem dX2_years_91 h (fun v20 h => ?_)
            refine g_iload dX2_years_92 0 rfl ?_
            refine g_cVMn [.int v20, .int v12] (fun m0 e0 => ok_X2_happensTo (xl X) g m13 a0 v20 v12 m0 e0) zc2 (by decide) (lw_V q1850 q1852 qs104 q126 q1853) rfl hy_X2_happensTo rfl ⟨by decide, by decide⟩ rfl zc_0 (by decide) dX2_years_94 h (fun m21 h => ?_)
            refine zG.sub [1, 2, 3, 0] rfl ?_
            have e := Option.some.inj h
            exact K14 _ e.symm
    · have h := zite_p h c
      refine g_iconst (v := (-1 : Int32)) dX2_years_21 (by decide) ?_
      refine g_iret dX2_years_22 hxt ?_
      have e := Option.some.inj h
      exact Kret _ _ e
/-! QuiverKinModel.of -/
def f_X2_of (g : zGd) (m : zMm) (a0 : Option Nat) (a1 : Int32) (a2 : Int32) : Option (Int32 × zMm) :=
(zrc g 2 a0 (f_X2_isKin g m a0 a1)).bind fun v1 =>
if v1 = 0 then (some (((-1 : Int32), m)))
else (if a2 = (0 : Int32) then ((zgr g m 2 0 a0).bind fun r2 =>
(zald 101 g m r2 ((23 : Int32) + a1)).bind fun v3 =>
some ((v3, m)))
else if a2 = (1 : Int32) then ((zgr g m 2 0 a0).bind fun r4 =>
(zald 101 g m r4 ((11 : Int32) + a1)).bind fun v5 =>
some ((v5, m)))
else if a2 = (2 : Int32) then ((zgr g m 2 0 a0).bind fun r6 =>
(zald 101 g m r6 ((17 : Int32) + a1)).bind fun v7 =>
some ((v7, m)))
else if a2 = (3 : Int32) then ((zrc g 2 a0 (f_X2_isStrapped g m a0 a1)).bind fun v8 =>
if v8 = 0 then (some (((0 : Int32), m)))
else (some (((1 : Int32), m))))
else if a2 = (4 : Int32) then ((zgr g m 2 0 a0).bind fun r9 =>
(zald 101 g m r9 (2 : Int32)).bind fun v10 =>
(zrc g 2 a0 (f_X2_reachesOf g m a0 v10 a1)).bind fun (v11, m12) =>
some ((v11, m12)))
else if a2 = (5 : Int32) then ((zrc g 2 a0 (f_X2_bearsOf g m a0 a1)).bind fun (v13, m14) =>
some ((v13, m14)))
else if a2 = (6 : Int32) then ((zrc g 2 a0 (f_X2_acrossOf g m a0 a1)).bind fun v15 =>
some ((v15, m)))
else (some (((-1 : Int32), m))))
theorem hy_X2_of : zHy yX2_of 2 := ⟨by decide, by decide, by decide +kernel⟩
set_option maxHeartbeats 4000000 in
theorem ok_X2_of (l : Launch) (g : zGd) (m : zMm) (a0 : Option Nat) (a1 : Int32) (a2 : Int32) (z0 : Int32) (m0 : zMm) (h : f_X2_of g m a0 a1 a2 = some (z0, m0)) : zCT l yX2_of cX2_of 3 (some .int) 8 184 g m [va_rf a0, .int a1, .int a2] (some (.int z0)) g m0 := by
  refine zCT.of (own := "QuiverKinModel") (mn := "of") (by decide +kernel) rfl rfl (zla_r (zla_i (zla_i zla_0))) (zls_r (zls_i (zls_i zls_0))) (by decide) (fun X hxl hxg hxf hxt hxr hxn => ?_)
  have Kret : ∀ (y0 : Int32) (y1 : zMm), (y0, y1) = (z0, m0) → zRe X g y1 (some (.int y0)) := by
    intro y0 y1 e; cases e; exact ⟨hxf, hxr, hxn⟩
  subst hxl
  show zG X cX2_of 3 "QuiverKinModel" "of" 8 184 0 [(0, va_rf a0), (1, .int a1), (2, .int a2)] [] g m
  unfold f_X2_of at h
  refine g_aload_n dX2_of_0 0 rfl ?_
  refine g_iload_n dX2_of_1 1 rfl ?_
  refine g_cVRv (rv := fun x : Int32 => Value.int x) [.int a1] (fun x0 e0 => ok_X2_isKin (xl X) g m a0 a1 x0 e0) zc2 (by decide) (lw_V q1545 q1547 qs55 q126 q1548) rfl hy_X2_isKin rfl ⟨by decide, by decide⟩ rfl zc_0 (by decide) dX2_of_2 h (fun v1 h => ?_)
  refine g_if_ne 10 dX2_of_5 (by decide) (fun c => ?_) (fun c => ?_)
  · have h := zite_n h c
    refine g_iload_n dX2_of_10 2 rfl ?_
    rcases Decidable.em (a2 = (0 : Int32)) with c | c0
    · have h := zite_p h c
      refine g_tsw (v := (0 : Int32)) (off := 41) 52 dX2_of_11 c (by decide) (by decide) (by decide) (by decide) ?_
      refine g_aload_n dX2_of_52 0 rfl ?_
      refine gf_r zfd_2_0 q1410  (fun _ h9 => h9) dX2_of_53 h (fun r2 h => ?_)
      refine g_bipush (v := (23 : Int32)) dX2_of_56 (by decide) ?_
      refine g_iload_n dX2_of_58 1 rfl ?_
      refine g_iadd dX2_of_59 ?_
      refine g_iald dX2_of_60 h (fun v3 h => ?_)
      refine g_iret dX2_of_61 hxt ?_
      have e := Option.some.inj h
      exact Kret _ _ e
    have h := zite_n h c0
    rcases Decidable.em (a2 = (1 : Int32)) with c | c1
    · have h := zite_p h c
      refine g_tsw (v := (1 : Int32)) (off := 51) 62 dX2_of_11 c (by decide) (by decide) (by decide) (by decide) ?_
      refine g_aload_n dX2_of_62 0 rfl ?_
      refine gf_r zfd_2_0 q1410  (fun _ h9 => h9) dX2_of_63 h (fun r4 h => ?_)
      refine g_bipush (v := (11 : Int32)) dX2_of_66 (by decide) ?_
      refine g_iload_n dX2_of_68 1 rfl ?_
      refine g_iadd dX2_of_69 ?_
      refine g_iald dX2_of_70 h (fun v5 h => ?_)
      refine g_iret dX2_of_71 hxt ?_
      have e := Option.some.inj h
      exact Kret _ _ e
    have h := zite_n h c1
    rcases Decidable.em (a2 = (2 : Int32)) with c | c2
    · have h := zite_p h c
      refine g_tsw (v := (2 : Int32)) (off := 61) 72 dX2_of_11 c (by decide) (by decide) (by decide) (by decide) ?_
      refine g_aload_n dX2_of_72 0 rfl ?_
      refine gf_r zfd_2_0 q1410  (fun _ h9 => h9) dX2_of_73 h (fun r6 h => ?_)
      refine g_bipush (v := (17 : Int32)) dX2_of_76 (by decide) ?_
      refine g_iload_n dX2_of_78 1 rfl ?_
      refine g_iadd dX2_of_79 ?_
      refine g_iald dX2_of_80 h (fun v7 h => ?_)
      refine g_iret dX2_of_81 hxt ?_
      have e := Option.some.inj h
      exact Kret _ _ e
    have h := zite_n h c2
    rcases Decidable.em (a2 = (3 : Int32)) with c | c3
    · have h := zite_p h c
      refine g_tsw (v := (3 : Int32)) (off := 71) 82 dX2_of_11 c (by decide) (by decide) (by decide) (by decide) ?_
      refine g_aload_n dX2_of_82 0 rfl ?_
      refine g_iload_n dX2_of_83 1 rfl ?_
      refine g_cVRv (rv := fun x : Int32 => Value.int x) [.int a1] (fun x0 e0 => ok_X2_isStrapped (xl X) g m a0 a1 x0 e0) zc2 (by decide) (lw_V q1717 q1719 qs83 q126 q1720) rfl hy_X2_isStrapped rfl ⟨by decide, by decide⟩ rfl zc_0 (by decide) dX2_of_84 h (fun v8 h => ?_)
      refine g_if_eq 94 dX2_of_87 (by decide) (fun c => ?_) (fun c => ?_)
      · have h := zite_p h c
        refine g_iconst (v := (0 : Int32)) dX2_of_94 (by decide) ?_
        refine g_iret dX2_of_95 hxt ?_
        have e := Option.some.inj h
        exact Kret _ _ e
      · have h := zite_n h c
        refine g_iconst (v := (1 : Int32)) dX2_of_90 (by decide) ?_
        refine g_goto 95 dX2_of_91 (by decide) ?_
        refine g_iret dX2_of_95 hxt ?_
        have e := Option.some.inj h
        exact Kret _ _ e
    have h := zite_n h c3
    rcases Decidable.em (a2 = (4 : Int32)) with c | c4
    · have h := zite_p h c
      refine g_tsw (v := (4 : Int32)) (off := 85) 96 dX2_of_11 c (by decide) (by decide) (by decide) (by decide) ?_
      refine g_aload_n dX2_of_96 0 rfl ?_
      refine g_aload_n dX2_of_97 0 rfl ?_
      refine gf_r zfd_2_0 q1410  (fun _ h9 => h9) dX2_of_98 h (fun r9 h => ?_)
      refine g_iconst (v := (2 : Int32)) dX2_of_101 (by decide) ?_
      refine g_iald dX2_of_102 h (fun v10 h => ?_)
      refine g_iload_n dX2_of_103 1 rfl ?_
      refine g_cVMv (rv := fun x : Int32 => Value.int x) [.int v10, .int a1] (fun x0 m0 e0 => ok_X2_reachesOf (xl X) g m a0 v10 a1 x0 m0 e0) zc2 (by decide) (lw_V q1779 q1781 qs93 q126 q1782) rfl hy_X2_reachesOf rfl ⟨by decide, by decide⟩ rfl zc_0 (by decide) dX2_of_104 h (fun v11 m12 h => ?_)
      refine g_iret dX2_of_107 hxt ?_
      have e := Option.some.inj h
      exact Kret _ _ e
    have h := zite_n h c4
    rcases Decidable.em (a2 = (5 : Int32)) with c | c5
    · have h := zite_p h c
      refine g_tsw (v := (5 : Int32)) (off := 97) 108 dX2_of_11 c (by decide) (by decide) (by decide) (by decide) ?_
      refine g_aload_n dX2_of_108 0 rfl ?_
      refine g_iload_n dX2_of_109 1 rfl ?_
      refine g_cVMv (rv := fun x : Int32 => Value.int x) [.int a1] (fun x0 m0 e0 => ok_X2_bearsOf (xl X) g m a0 a1 x0 m0 e0) zc2 (by decide) (lw_V q1821 q1823 qs100 q126 q1824) rfl hy_X2_bearsOf rfl ⟨by decide, by decide⟩ rfl zc_0 (by decide) dX2_of_110 h (fun v13 m14 h => ?_)
      refine g_iret dX2_of_113 hxt ?_
      have e := Option.some.inj h
      exact Kret _ _ e
    have h := zite_n h c5
    rcases Decidable.em (a2 = (6 : Int32)) with c | c6
    · have h := zite_p h c
      refine g_tsw (v := (6 : Int32)) (off := 103) 114 dX2_of_11 c (by decide) (by decide) (by decide) (by decide) ?_
      refine g_aload_n dX2_of_114 0 rfl ?_
      refine g_iload_n dX2_of_115 1 rfl ?_
      refine g_cVRv (rv := fun x : Int32 => Value.int x) [.int a1] (fun x0 e0 => ok_X2_acrossOf (xl X) g m a0 a1 x0 e0) zc2 (by decide) (lw_V q1803 q1805 qs99 q126 q1806) rfl hy_X2_acrossOf rfl ⟨by decide, by decide⟩ rfl zc_0 (by decide) dX2_of_116 h (fun v15 h => ?_)
      refine g_iret dX2_of_119 hxt ?_
      have e := Option.some.inj h
      exact Kret _ _ e
    have h := zite_n h c6
    refine g_tswG (n := 7) (vs := [(0 : Int32), (1 : Int32), (2 : Int32), (3 : Int32), (4 : Int32), (5 : Int32), (6 : Int32)]) 120 dX2_of_11 (List.forall_mem_cons.mpr ⟨c0, List.forall_mem_cons.mpr ⟨c1, List.forall_mem_cons.mpr ⟨c2, List.forall_mem_cons.mpr ⟨c3, List.forall_mem_cons.mpr ⟨c4, List.forall_mem_cons.mpr ⟨c5, List.forall_mem_cons.mpr ⟨c6, fun _ h9 => absurd h9 List.not_mem_nil⟩⟩⟩⟩⟩⟩⟩) (by decide) (by decide) (by decide) ?_
    refine g_iconst (v := (-1 : Int32)) dX2_of_120 (by decide) ?_
    refine g_iret dX2_of_121 hxt ?_
    have e := Option.some.inj h
    exact Kret _ _ e
  · have h := zite_p h c
    refine g_iconst (v := (-1 : Int32)) dX2_of_8 (by decide) ?_
    refine g_iret dX2_of_9 hxt ?_
    have e := Option.some.inj h
    exact Kret _ _ e
/-! QuiverKinModel.at -/
def f_X2_at (g : zGd) (m : zMm) (a0 : Option Nat) (a1 : Int32) : Option (Int32) :=
(zrc g 2 a0 (f_X2_isKin g m a0 a1)).bind fun v1 =>
if v1 = 0 then (some ((-1 : Int32)))
else ((zrc g 2 a0 (f_X2_whoAt g m a0 a1)).bind fun v2 =>
some (v2))
theorem hy_X2_at : zHy yX2_at 1 := ⟨by decide, by decide, by decide +kernel⟩
set_option maxHeartbeats 4000000 in
theorem ok_X2_at (l : Launch) (g : zGd) (m : zMm) (a0 : Option Nat) (a1 : Int32) (z0 : Int32) (h : f_X2_at g m a0 a1 = some z0) : zCT l yX2_at cX2_at 2 (some .int) 3 63 g m [va_rf a0, .int a1] (some (.int z0)) g m := by
  refine zCT.of (own := "QuiverKinModel") (mn := "at") (by decide +kernel) rfl rfl (zla_r (zla_i zla_0)) (zls_r (zls_i zls_0)) (by decide) (fun X hxl hxg hxf hxt hxr hxn => ?_)
  have Kret : ∀ (y0 : Int32), y0 = z0 → zRe X g m (some (.int y0)) := by
    intro y0 e; cases e; exact ⟨hxf, hxr, hxn⟩
  subst hxl
  show zG X cX2_at 2 "QuiverKinModel" "at" 3 63 0 [(0, va_rf a0), (1, .int a1)] [] g m
  unfold f_X2_at at h
  refine g_aload_n dX2_at_0 0 rfl ?_
  refine g_iload_n dX2_at_1 1 rfl ?_
  refine g_cVRv (rv := fun x : Int32 => Value.int x) [.int a1] (fun x0 e0 => ok_X2_isKin (xl X) g m a0 a1 x0 e0) zc2 (by decide) (lw_V q1545 q1547 qs55 q126 q1548) rfl hy_X2_isKin rfl ⟨by decide, by decide⟩ rfl zc_0 (by decide) dX2_at_2 h (fun v1 h => ?_)
  refine g_if_eq 16 dX2_at_5 (by decide) (fun c => ?_) (fun c => ?_)
  · have h := zite_p h c
    refine g_iconst (v := (-1 : Int32)) dX2_at_16 (by decide) ?_
    refine g_iret dX2_at_17 hxt ?_
    have e := Option.some.inj h
    exact Kret _ e
  · have h := zite_n h c
    refine g_aload_n dX2_at_8 0 rfl ?_
    refine g_iload_n dX2_at_9 1 rfl ?_
    refine g_cVRv (rv := fun x : Int32 => Value.int x) [.int a1] (fun x0 e0 => ok_X2_whoAt (xl X) g m a0 a1 x0 e0) zc2 (by decide) (lw_V q1764 q1766 qs90 q126 q1767) rfl hy_X2_whoAt rfl ⟨by decide, by decide⟩ rfl zc_0 (by decide) dX2_at_10 h (fun v2 h => ?_)
    refine g_goto 17 dX2_at_13 (by decide) ?_
    refine g_iret dX2_at_17 hxt ?_
    have e := Option.some.inj h
    exact Kret _ e
/-! QuiverKinModel.is -/
def b_X2_is_23 (g : zGd) (m : zMm) (a0 : Option Nat) : Int32 × Int32 → Option ((Int32) ⊕ (Int32 × Int32)) := fun (v5, v6) =>
(zgr g m 2 0 a0).bind fun r7 =>
(zald 101 g m r7 (0 : Int32)).bind fun v8 =>
if v8 ≤ v6 then (some (.inl v5))
else ((zgr g m 2 0 a0).bind fun r9 =>
(zald 101 g m r9 ((11 : Int32) + v6)).bind fun v10 =>
zlt (v5 + v10) fun v11 =>
zlt (v6 + (1 : Int32)) fun v12 =>
some (.inr (v11, v12)))
def f_X2_is (g : zGd) (m : zMm) (a0 : Option Nat) (a1 : Int32) : Option (Int32) :=
(f_X2_isIn a1 (0 : Int32) (1 : Int32)).bind fun v1 =>
if v1 = 0 then ((zLoop (b_X2_is_23 g m a0) zFuel ((0 : Int32), (0 : Int32))).bind fun v3 =>
if a1 = (2 : Int32) then (some (v3))
else (if a1 = (3 : Int32) then ((zgr g m 2 0 a0).bind fun r13 =>
(zald 101 g m r13 (10 : Int32)).bind fun v14 =>
some (v14))
else (some ((-2 : Int32)))))
else ((zgr g m 2 0 a0).bind fun r15 =>
(zald 101 g m r15 ((7 : Int32) + a1)).bind fun v16 =>
some (v16))
theorem hy_X2_is : zHy yX2_is 1 := ⟨by decide, by decide, by decide +kernel⟩
set_option maxHeartbeats 4000000 in
theorem ok_X2_is (l : Launch) (g : zGd) (m : zMm) (a0 : Option Nat) (a1 : Int32) (z0 : Int32) (h : f_X2_is g m a0 a1 = some z0) : zCT l yX2_is cX2_is 4 (some .int) 2 42 g m [va_rf a0, .int a1] (some (.int z0)) g m := by
  refine zCT.of (own := "QuiverKinModel") (mn := "is") (by decide +kernel) rfl rfl (zla_r (zla_i zla_0)) (zls_r (zls_i zls_0)) (by decide) (fun X hxl hxg hxf hxt hxr hxn => ?_)
  have Kret : ∀ (y0 : Int32), y0 = z0 → zRe X g m (some (.int y0)) := by
    intro y0 e; cases e; exact ⟨hxf, hxr, hxn⟩
  subst hxl
  show zG X cX2_is 4 "QuiverKinModel" "is" 2 42 0 [(0, va_rf a0), (1, .int a1)] [] g m
  unfold f_X2_is at h
  refine g_iload_n dX2_is_0 1 rfl ?_
  refine g_iconst (v := (0 : Int32)) dX2_is_1 (by decide) ?_
  refine g_iconst (v := (1 : Int32)) dX2_is_2 (by decide) ?_
  refine g_cSRv (rv := fun x : Int32 => Value.int x) [.int a1, .int (0 : Int32), .int (1 : Int32)] (fun x0 e0 => ok_X2_isIn (xl X) g m a1 (0 : Int32) (1 : Int32) x0 e0) (lw_S q1534 q1535 q126 q1536) hy_X2_isIn rfl ⟨by decide, by decide⟩ rfl zc_0 (by decide) dX2_is_3 h (fun v1 h => ?_)
  refine g_if_eq 19 dX2_is_6 (by decide) (fun c => ?_) (fun c => ?_)
  · have h := zite_p h c
    refine g_iconst (v := (0 : Int32)) dX2_is_19 (by decide) ?_
    refine g_istore_n [(2, .int (0 : Int32)), (0, va_rf a0), (1, .int a1)] dX2_is_20 (by decide) (zf_r (zf_i zf_0)) rfl ?_
    refine g_iconst (v := (0 : Int32)) dX2_is_21 (by decide) ?_
    refine g_istore_n [(3, .int (0 : Int32)), (2, .int (0 : Int32)), (0, va_rf a0), (1, .int a1)] dX2_is_22 (by decide) (zf_i (zf_r (zf_i zf_0))) rfl ?_
    obtain ⟨o2, h1, h2⟩ := zB_e h
    have K2 : ∀ (v3 : Int32), o2 = v3 → zG X cX2_is 4 "QuiverKinModel" "is" 2 42 51 [(0, va_rf a0), (1, .int a1), (2, .int v3)] [] g m := by
      intro v3 e
      rw [e] at h2
      have h := h2
      refine g_iload_n dX2_is_51 1 rfl ?_
      refine g_iconst (v := (2 : Int32)) dX2_is_52 (by decide) ?_
      refine g_icmp_ne 60 dX2_is_53 (by decide) (fun c => ?_) (fun c => ?_)
      · have h := zite_n h c
        refine g_iload_n dX2_is_60 1 rfl ?_
        refine g_iconst (v := (3 : Int32)) dX2_is_61 (by decide) ?_
        refine g_icmp_ne 75 dX2_is_62 (by decide) (fun c => ?_) (fun c => ?_)
        · have h := zite_n h c
          refine g_bipush (v := (-2 : Int32)) dX2_is_75 (by decide) ?_
          refine g_iret dX2_is_77 hxt ?_
          have e := Option.some.inj h
          exact Kret _ e
        · have h := zite_p h c
          refine g_aload_n dX2_is_65 0 rfl ?_
          refine gf_r zfd_2_0 q1410  (fun _ h9 => h9) dX2_is_66 h (fun r13 h => ?_)
          refine g_bipush (v := (10 : Int32)) dX2_is_69 (by decide) ?_
          refine g_iald dX2_is_71 h (fun v14 h => ?_)
          refine g_goto 77 dX2_is_72 (by decide) ?_
          refine g_iret dX2_is_77 hxt ?_
          have e := Option.some.inj h
          exact Kret _ e
      · have h := zite_p h c
        refine g_iload_n dX2_is_56 2 rfl ?_
        refine g_goto 77 dX2_is_57 (by decide) ?_
        refine g_iret dX2_is_77 hxt ?_
        have e := Option.some.inj h
        exact Kret _ e
    refine zG.sub [2, 3, 1, 0] rfl ?_
    refine zLoop_ok (Φ := (fun (q : Int32 × Int32) => match q with | (v5, v6) => zG X cX2_is 4 "QuiverKinModel" "is" 2 42 23 [(0, va_rf a0), (1, .int a1), (2, .int v5), (3, .int v6)] [] g m)) o2 ?_ zFuel _ h1
    rintro ⟨v5, v6⟩ x4 h hl4 hr4
    unfold b_X2_is_23 at h
    have K4 : ∀ (v5 : Int32) (v6 : Int32), x4 = .inr (v5, v6) → zG X cX2_is 4 "QuiverKinModel" "is" 2 42 23 [(0, va_rf a0), (1, .int a1), (2, .int v5), (3, .int v6)] [] g m := by
      intro v5 v6 e
      exact hr4 _ e
    show zG X cX2_is 4 "QuiverKinModel" "is" 2 42 23 [(0, va_rf a0), (1, .int a1), (2, .int v5), (3, .int v6)] [] g m
    refine g_iload_n dX2_is_23 3 rfl ?_
    refine g_aload_n dX2_is_24 0 rfl ?_
    refine gf_r zfd_2_0 q1410  (fun _ h9 => h9) dX2_is_25 h (fun r7 h => ?_)
    refine g_iconst (v := (0 : Int32)) dX2_is_28 (by decide) ?_
    refine g_iald dX2_is_29 h (fun v8 h => ?_)
    refine g_icmp_ge 51 dX2_is_30 (by decide) (fun c => ?_) (fun c => ?_)
    · have h := zite_p h c
      refine zG.sub [0, 1, 2] rfl ?_
      have e := Option.some.inj h
      have e := hl4 _ e.symm
      exact K2 _ e.symm
    · have h := zite_n h c
      refine g_iload_n dX2_is_33 2 rfl ?_
      refine g_aload_n dX2_is_34 0 rfl ?_
      refine gf_r zfd_2_0 q1410  (fun _ h9 => h9) dX2_is_35 h (fun r9 h => ?_)
      refine g_bipush (v := (11 : Int32)) dX2_is_38 (by decide) ?_
      refine g_iload_n dX2_is_40 3 rfl ?_
      refine g_iadd dX2_is_41 ?_
      refine g_iald dX2_is_42 h (fun v10 h => ?_)
      refine g_iadd dX2_is_43 ?_
      refine g_leti h (fun v11 h => ?_)
      refine g_istore_n [(2, .int v11), (0, va_rf a0), (1, .int a1), (3, .int v6)] dX2_is_44 (by decide) (zf_r (zf_i (zf_i (zf_i zf_0)))) rfl ?_
      refine g_iinc (v := (1 : Int32)) [(2, .int v11), (0, va_rf a0), (1, .int a1)] dX2_is_45 3 rfl (by decide) (by decide) (zf_i (zf_r (zf_i (zf_i zf_0)))) rfl h (fun v12 h => ?_)
      refine g_goto 23 dX2_is_48 (by decide) ?_
      refine zG.sub [2, 3, 1, 0] rfl ?_
      have e := Option.some.inj h
      exact K4 _ _ e.symm
  · have h := zite_n h c
    refine g_aload_n dX2_is_9 0 rfl ?_
    refine gf_r zfd_2_0 q1410  (fun _ h9 => h9) dX2_is_10 h (fun r15 h => ?_)
    refine g_bipush (v := (7 : Int32)) dX2_is_13 (by decide) ?_
    refine g_iload_n dX2_is_15 1 rfl ?_
    refine g_iadd dX2_is_16 ?_
    refine g_iald dX2_is_17 h (fun v16 h => ?_)
    refine g_iret dX2_is_18 hxt ?_
    have e := Option.some.inj h
    exact Kret _ e
/-! QuiverKinModel.lineOf -/
def f_X2_lineOf (g : zGd) (m : zMm) (a0 : Option Nat) (a1 : Int32) (a2 : Int32) : Option (Int32) :=
(zgr g m 2 0 a0).bind fun r1 =>
(zald 101 g m r1 ((1425 : Int32) + a1)).bind fun v2 =>
if a2 = 0 then (some ((v2 / (2688 : Int32))))
else (if a2 = (1 : Int32) then (some ((zrem (v2 / (448 : Int32)) (6 : Int32))))
else (if a2 = (2 : Int32) then (some ((zrem (v2 / (7 : Int32)) (64 : Int32))))
else (some (((zrem v2 (7 : Int32)) - (1 : Int32))))))
theorem hy_X2_lineOf : zHy yX2_lineOf 2 := ⟨by decide, by decide, by decide +kernel⟩
set_option maxHeartbeats 4000000 in
theorem ok_X2_lineOf (l : Launch) (g : zGd) (m : zMm) (a0 : Option Nat) (a1 : Int32) (a2 : Int32) (z0 : Int32) (h : f_X2_lineOf g m a0 a1 a2 = some z0) : zCT l yX2_lineOf cX2_lineOf 4 (some .int) 1 20 g m [va_rf a0, .int a1, .int a2] (some (.int z0)) g m := by
  refine zCT.of (own := "QuiverKinModel") (mn := "lineOf") (by decide +kernel) rfl rfl (zla_r (zla_i (zla_i zla_0))) (zls_r (zls_i (zls_i zls_0))) (by decide) (fun X hxl hxg hxf hxt hxr hxn => ?_)
  have Kret : ∀ (y0 : Int32), y0 = z0 → zRe X g m (some (.int y0)) := by
    intro y0 e; cases e; exact ⟨hxf, hxr, hxn⟩
  subst hxl
  show zG X cX2_lineOf 4 "QuiverKinModel" "lineOf" 1 20 0 [(0, va_rf a0), (1, .int a1), (2, .int a2)] [] g m
  unfold f_X2_lineOf at h
  refine g_aload_n dX2_lineOf_0 0 rfl ?_
  refine gf_r zfd_2_0 q1410  (fun _ h9 => h9) dX2_lineOf_1 h (fun r1 h => ?_)
  refine g_sipush (v := (1425 : Int32)) dX2_lineOf_4 (by decide) ?_
  refine g_iload_n dX2_lineOf_7 1 rfl ?_
  refine g_iadd dX2_lineOf_8 ?_
  refine g_iald dX2_lineOf_9 h (fun v2 h => ?_)
  refine g_istore_n [(3, .int v2), (0, va_rf a0), (1, .int a1), (2, .int a2)] dX2_lineOf_10 (by decide) (zf_r (zf_i (zf_i zf_0))) rfl ?_
  refine g_iload_n dX2_lineOf_11 3 rfl ?_
  refine g_if_ne 23 dX2_lineOf_12 (by decide) (fun c => ?_) (fun c => ?_)
  · have h := zite_n h c
    refine g_iload_n dX2_lineOf_23 3 rfl ?_
    refine g_iconst (v := (1 : Int32)) dX2_lineOf_24 (by decide) ?_
    refine g_icmp_ne 39 dX2_lineOf_25 (by decide) (fun c => ?_) (fun c => ?_)
    · have h := zite_n h c
      refine g_iload_n dX2_lineOf_39 3 rfl ?_
      refine g_iconst (v := (2 : Int32)) dX2_lineOf_40 (by decide) ?_
      refine g_icmp_ne 54 dX2_lineOf_41 (by decide) (fun c => ?_) (fun c => ?_)
      · have h := zite_n h c
        refine g_iload_n dX2_lineOf_54 0 rfl ?_
        refine g_bipush (v := (7 : Int32)) dX2_lineOf_55 (by decide) ?_
        refine g_iremC dX2_lineOf_57 (by decide) ?_
        refine g_iconst (v := (1 : Int32)) dX2_lineOf_58 (by decide) ?_
        refine g_isub dX2_lineOf_59 ?_
        refine g_iret dX2_lineOf_60 hxt ?_
        have e := Option.some.inj h
        exact Kret _ e
      · have h := zite_p h c
        refine g_iload_n dX2_lineOf_44 0 rfl ?_
        refine g_bipush (v := (7 : Int32)) dX2_lineOf_45 (by decide) ?_
        refine g_idivC dX2_lineOf_47 (by decide) ?_
        refine g_bipush (v := (64 : Int32)) dX2_lineOf_48 (by decide) ?_
        refine g_iremC dX2_lineOf_50 (by decide) ?_
        refine g_goto 60 dX2_lineOf_51 (by decide) ?_
        refine g_iret dX2_lineOf_60 hxt ?_
        have e := Option.some.inj h
        exact Kret _ e
    · have h := zite_p h c
      refine g_iload_n dX2_lineOf_28 0 rfl ?_
      refine g_sipush (v := (448 : Int32)) dX2_lineOf_29 (by decide) ?_
      refine g_idivC dX2_lineOf_32 (by decide) ?_
      refine g_bipush (v := (6 : Int32)) dX2_lineOf_33 (by decide) ?_
      refine g_iremC dX2_lineOf_35 (by decide) ?_
      refine g_goto 60 dX2_lineOf_36 (by decide) ?_
      refine g_iret dX2_lineOf_60 hxt ?_
      have e := Option.some.inj h
      exact Kret _ e
  · have h := zite_p h c
    refine g_iload_n dX2_lineOf_15 0 rfl ?_
    refine g_sipush (v := (2688 : Int32)) dX2_lineOf_16 (by decide) ?_
    refine g_idivC dX2_lineOf_19 (by decide) ?_
    refine g_goto 60 dX2_lineOf_20 (by decide) ?_
    refine g_iret dX2_lineOf_60 hxt ?_
    have e := Option.some.inj h
    exact Kret _ e
/-! QuiverKinModel.book -/
def f_X2_book (g : zGd) (m : zMm) (a0 : Option Nat) (a1 : Int32) (a2 : Int32) : Option (Int32) :=
if a1 = (-1 : Int32) then ((zgr g m 2 0 a0).bind fun r6 =>
(zald 101 g m r6 (9 : Int32)).bind fun v7 =>
some (v7))
else ((zgr g m 2 0 a0).bind fun r1 =>
(zald 101 g m r1 (9 : Int32)).bind fun v2 =>
(f_X2_isIn a1 (0 : Int32) (v2 - (1 : Int32))).bind fun v3 =>
if v3 = 0 then (some ((-2 : Int32)))
else ((f_X2_isIn a2 (0 : Int32) (3 : Int32)).bind fun v4 =>
if v4 = 0 then (some ((-2 : Int32)))
else ((zrc g 2 a0 (f_X2_lineOf g m a0 a1 a2)).bind fun v5 =>
some (v5))))
theorem hy_X2_book : zHy yX2_book 2 := ⟨by decide, by decide, by decide +kernel⟩
set_option maxHeartbeats 4000000 in
theorem ok_X2_book (l : Launch) (g : zGd) (m : zMm) (a0 : Option Nat) (a1 : Int32) (a2 : Int32) (z0 : Int32) (h : f_X2_book g m a0 a1 a2 = some z0) : zCT l yX2_book cX2_book 3 (some .int) 2 43 g m [va_rf a0, .int a1, .int a2] (some (.int z0)) g m := by
  refine zCT.of (own := "QuiverKinModel") (mn := "book") (by decide +kernel) rfl rfl (zla_r (zla_i (zla_i zla_0))) (zls_r (zls_i (zls_i zls_0))) (by decide) (fun X hxl hxg hxf hxt hxr hxn => ?_)
  have Kret : ∀ (y0 : Int32), y0 = z0 → zRe X g m (some (.int y0)) := by
    intro y0 e; cases e; exact ⟨hxf, hxr, hxn⟩
  subst hxl
  show zG X cX2_book 3 "QuiverKinModel" "book" 2 43 0 [(0, va_rf a0), (1, .int a1), (2, .int a2)] [] g m
  unfold f_X2_book at h
  refine g_iload_n dX2_book_0 1 rfl ?_
  refine g_iconst (v := (-1 : Int32)) dX2_book_1 (by decide) ?_
  refine g_icmp_ne 13 dX2_book_2 (by decide) (fun c => ?_) (fun c => ?_)
  · have h := zite_n h c
    refine g_iload_n dX2_book_13 1 rfl ?_
    refine g_iconst (v := (0 : Int32)) dX2_book_14 (by decide) ?_
    refine g_aload_n dX2_book_15 0 rfl ?_
    refine gf_r zfd_2_0 q1410  (fun _ h9 => h9) dX2_book_16 h (fun r1 h => ?_)
    refine g_bipush (v := (9 : Int32)) dX2_book_19 (by decide) ?_
    refine g_iald dX2_book_21 h (fun v2 h => ?_)
    refine g_iconst (v := (1 : Int32)) dX2_book_22 (by decide) ?_
    refine g_isub dX2_book_23 ?_
    refine g_cSRv (rv := fun x : Int32 => Value.int x) [.int a1, .int (0 : Int32), .int (v2 - (1 : Int32))] (fun x0 e0 => ok_X2_isIn (xl X) g m a1 (0 : Int32) (v2 - (1 : Int32)) x0 e0) (lw_S q1534 q1535 q126 q1536) hy_X2_isIn rfl ⟨by decide, by decide⟩ rfl zc_0 (by decide) dX2_book_24 h (fun v3 h => ?_)
    refine g_if_eq 48 dX2_book_27 (by decide) (fun c => ?_) (fun c => ?_)
    · have h := zite_p h c
      refine g_bipush (v := (-2 : Int32)) dX2_book_48 (by decide) ?_
      refine g_iret dX2_book_50 hxt ?_
      have e := Option.some.inj h
      exact Kret _ e
    · have h := zite_n h c
      refine g_iload_n dX2_book_30 2 rfl ?_
      refine g_iconst (v := (0 : Int32)) dX2_book_31 (by decide) ?_
      refine g_iconst (v := (3 : Int32)) dX2_book_32 (by decide) ?_
      refine g_cSRv (rv := fun x : Int32 => Value.int x) [.int a2, .int (0 : Int32), .int (3 : Int32)] (fun x0 e0 => ok_X2_isIn (xl X) g m a2 (0 : Int32) (3 : Int32) x0 e0) (lw_S q1534 q1535 q126 q1536) hy_X2_isIn rfl ⟨by decide, by decide⟩ rfl zc_0 (by decide) dX2_book_33 h (fun v4 h => ?_)
      refine g_if_eq 48 dX2_book_36 (by decide) (fun c => ?_) (fun c => ?_)
      · have h := zite_p h c
        refine g_bipush (v := (-2 : Int32)) dX2_book_48 (by decide) ?_
        refine g_iret dX2_book_50 hxt ?_
        have e := Option.some.inj h
        exact Kret _ e
      · have h := zite_n h c
        refine g_aload_n dX2_book_39 0 rfl ?_
        refine g_iload_n dX2_book_40 1 rfl ?_
        refine g_iload_n dX2_book_41 2 rfl ?_
        refine g_cVRv (rv := fun x : Int32 => Value.int x) [.int a1, .int a2] (fun x0 e0 => ok_X2_lineOf (xl X) g m a0 a1 a2 x0 e0) zc2 (by decide) (lw_V q1870 q1872 qs105 q126 q1873) rfl hy_X2_lineOf rfl ⟨by decide, by decide⟩ rfl zc_0 (by decide) dX2_book_42 h (fun v5 h => ?_)
        refine g_goto 50 dX2_book_45 (by decide) ?_
        refine g_iret dX2_book_50 hxt ?_
        have e := Option.some.inj h
        exact Kret _ e
  · have h := zite_p h c
    refine g_aload_n dX2_book_5 0 rfl ?_
    refine gf_r zfd_2_0 q1410  (fun _ h9 => h9) dX2_book_6 h (fun r6 h => ?_)
    refine g_bipush (v := (9 : Int32)) dX2_book_9 (by decide) ?_
    refine g_iald dX2_book_11 h (fun v7 h => ?_)
    refine g_iret dX2_book_12 hxt ?_
    have e := Option.some.inj h
    exact Kret _ e
/-! QuiverKinModel.ledger -/
def b_X2_ledger_20 (g : zGd) (m : zMm) (a0 : Option Nat) (a1 : Int32) : Int32 × Int32 → Option ((Int32) ⊕ (Int32 × Int32)) := fun (v6, v7) =>
(zgr g m 2 0 a0).bind fun r8 =>
(zald 101 g m r8 (9 : Int32)).bind fun v9 =>
if v9 ≤ v7 then (some (.inl v6))
else (if a1 = (-1 : Int32) then (zlt (v6 + (1 : Int32)) fun v10 =>
zlt (v7 + (1 : Int32)) fun v11 =>
some (.inr (v10, v11)))
else ((zrc g 2 a0 (f_X2_lineOf g m a0 v7 (1 : Int32))).bind fun v12 =>
if v12 = a1 then (zlt (v6 + (1 : Int32)) fun v15 =>
zlt (v7 + (1 : Int32)) fun v16 =>
some (.inr (v15, v16)))
else (zlt (v6 + (0 : Int32)) fun v13 =>
zlt (v7 + (1 : Int32)) fun v14 =>
some (.inr (v13, v14)))))
def f_X2_ledger (g : zGd) (m : zMm) (a0 : Option Nat) (a1 : Int32) : Option (Int32) :=
zEx (σ := Unit) (if a1 = (-1 : Int32) then (some (.inr ()))
else ((zrc g 2 a0 (f_X2_isKin g m a0 a1)).bind fun v2 =>
if v2 = 0 then (some (.inl ((-2 : Int32))))
else (some (.inr ())))) fun _ =>
(zLoop (b_X2_ledger_20 g m a0 a1) zFuel ((0 : Int32), (0 : Int32))).bind fun v4 =>
some (v4)
theorem hy_X2_ledger : zHy yX2_ledger 1 := ⟨by decide, by decide, by decide +kernel⟩
set_option maxHeartbeats 4000000 in
theorem ok_X2_ledger (l : Launch) (g : zGd) (m : zMm) (a0 : Option Nat) (a1 : Int32) (z0 : Int32) (h : f_X2_ledger g m a0 a1 = some z0) : zCT l yX2_ledger cX2_ledger 4 (some .int) 3 63 g m [va_rf a0, .int a1] (some (.int z0)) g m := by
  refine zCT.of (own := "QuiverKinModel") (mn := "ledger") (by decide +kernel) rfl rfl (zla_r (zla_i zla_0)) (zls_r (zls_i zls_0)) (by decide) (fun X hxl hxg hxf hxt hxr hxn => ?_)
  have Kret : ∀ (y0 : Int32), y0 = z0 → zRe X g m (some (.int y0)) := by
    intro y0 e; cases e; exact ⟨hxf, hxr, hxn⟩
  subst hxl
  show zG X cX2_ledger 4 "QuiverKinModel" "ledger" 3 63 0 [(0, va_rf a0), (1, .int a1)] [] g m
  unfold f_X2_ledger at h
  refine g_iload_n dX2_ledger_0 1 rfl ?_
  refine g_iconst (v := (-1 : Int32)) dX2_ledger_1 (by decide) ?_
  obtain ⟨o1, h1, hl1, hr1⟩ := zEx_e h
  have K1 : o1 = .inr () → zG X cX2_ledger 4 "QuiverKinModel" "ledger" 3 63 16 [(0, va_rf a0), (1, .int a1)] [] g m := by
    intro e
    have h := hr1 _ e
    refine g_iconst (v := (0 : Int32)) dX2_ledger_16 (by decide) ?_
    refine g_istore_n [(2, .int (0 : Int32)), (0, va_rf a0), (1, .int a1)] dX2_ledger_17 (by decide) (zf_r (zf_i zf_0)) rfl ?_
    refine g_iconst (v := (0 : Int32)) dX2_ledger_18 (by decide) ?_
    refine g_istore_n [(3, .int (0 : Int32)), (2, .int (0 : Int32)), (0, va_rf a0), (1, .int a1)] dX2_ledger_19 (by decide) (zf_i (zf_r (zf_i zf_0))) rfl ?_
    obtain ⟨o3, h1, h2⟩ := zB_e h
    have K3 : ∀ (v4 : Int32), o3 = v4 → zG X cX2_ledger 4 "QuiverKinModel" "ledger" 3 63 60 [(2, .int v4)] [] g m := by
      intro v4 e
      rw [e] at h2
      have h := h2
      refine g_iload_n dX2_ledger_60 0 rfl ?_
      refine g_iret dX2_ledger_61 hxt ?_
      have e := Option.some.inj h
      exact Kret _ e
    refine zG.sub [2, 3, 1, 0] rfl ?_
    refine zLoop_ok (Φ := (fun (q : Int32 × Int32) => match q with | (v6, v7) => zG X cX2_ledger 4 "QuiverKinModel" "ledger" 3 63 20 [(0, va_rf a0), (1, .int a1), (2, .int v6), (3, .int v7)] [] g m)) o3 ?_ zFuel _ h1
    rintro ⟨v6, v7⟩ x5 h hl5 hr5
    unfold b_X2_ledger_20 at h
    have K5 : ∀ (v6 : Int32) (v7 : Int32), x5 = .inr (v6, v7) → zG X cX2_ledger 4 "QuiverKinModel" "ledger" 3 63 20 [(0, va_rf a0), (1, .int a1), (2, .int v6), (3, .int v7)] [] g m := by
      intro v6 v7 e
      exact hr5 _ e
    show zG X cX2_ledger 4 "QuiverKinModel" "ledger" 3 63 20 [(0, va_rf a0), (1, .int a1), (2, .int v6), (3, .int v7)] [] g m
    refine g_iload_n dX2_ledger_20 3 rfl ?_
    refine g_aload_n dX2_ledger_21 0 rfl ?_
    refine gf_r zfd_2_0 q1410  (fun _ h9 => h9) dX2_ledger_22 h (fun r8 h => ?_)
    refine g_bipush (v := (9 : Int32)) dX2_ledger_25 (by decide) ?_
    refine g_iald dX2_ledger_27 h (fun v9 h => ?_)
    refine g_icmp_ge 60 dX2_ledger_28 (by decide) (fun c => ?_) (fun c => ?_)
    · have h := zite_p h c
      refine zG.sub [2] rfl ?_
      have e := Option.some.inj h
      have e := hl5 _ e.symm
      exact K3 _ e.symm
    · have h := zite_n h c
      refine g_iload_n dX2_ledger_31 2 rfl ?_
      refine g_iload_n dX2_ledger_32 1 rfl ?_
      refine g_iconst (v := (-1 : Int32)) dX2_ledger_33 (by decide) ?_
      refine g_icmp_eq 47 dX2_ledger_34 (by decide) (fun c => ?_) (fun c => ?_)
      · have h := zite_p h c
        refine g_iconst (v := (1 : Int32)) dX2_ledger_47 (by decide) ?_
        refine g_goto 52 dX2_ledger_48 (by decide) ?_
        refine g_iadd dX2_ledger_52 ?_
        refine g_leti h (fun v10 h => ?_)
        refine g_istore_n [(2, .int v10), (0, va_rf a0), (1, .int a1), (3, .int v7)] dX2_ledger_53 (by decide) (zf_r (zf_i (zf_i (zf_i zf_0)))) rfl ?_
        refine g_iinc (v := (1 : Int32)) [(2, .int v10), (0, va_rf a0), (1, .int a1)] dX2_ledger_54 3 rfl (by decide) (by decide) (zf_i (zf_r (zf_i (zf_i zf_0)))) rfl h (fun v11 h => ?_)
        refine g_goto 20 dX2_ledger_57 (by decide) ?_
        refine zG.sub [2, 3, 1, 0] rfl ?_
        have e := Option.some.inj h
        exact K5 _ _ e.symm
      · have h := zite_n h c
        refine g_aload_n dX2_ledger_37 0 rfl ?_
        refine g_iload_n dX2_ledger_38 3 rfl ?_
        refine g_iconst (v := (1 : Int32)) dX2_ledger_39 (by decide) ?_
        refine g_cVRv (rv := fun x : Int32 => Value.int x) [.int v7, .int (1 : Int32)] (fun x0 e0 => ok_X2_lineOf (xl X) g m a0 v7 (1 : Int32) x0 e0) zc2 (by decide) (lw_V q1870 q1872 qs105 q126 q1873) rfl hy_X2_lineOf rfl ⟨by decide, by decide⟩ rfl (zc_i zc_0) (by decide) dX2_ledger_40 h (fun v12 h => ?_)
        refine g_iload_n dX2_ledger_43 1 rfl ?_
        refine g_icmp_ne 51 dX2_ledger_44 (by decide) (fun c => ?_) (fun c => ?_)
        · have h := zite_n h c
          refine g_iconst (v := (0 : Int32)) dX2_ledger_51 (by decide) ?_
          refine g_iadd dX2_ledger_52 ?_
          refine g_leti h (fun v13 h => ?_)
          refine g_istore_n [(2, .int v13), (0, va_rf a0), (1, .int a1), (3, .int v7)] dX2_ledger_53 (by decide) (zf_r (zf_i (zf_i (zf_i zf_0)))) rfl ?_
          refine g_iinc (v := (1 : Int32)) [(2, .int v13), (0, va_rf a0), (1, .int a1)] dX2_ledger_54 3 rfl (by decide) (by decide) (zf_i (zf_r (zf_i (zf_i zf_0)))) rfl h (fun v14 h => ?_)
          refine g_goto 20 dX2_ledger_57 (by decide) ?_
          refine zG.sub [2, 3, 1, 0] rfl ?_
          have e := Option.some.inj h
          exact K5 _ _ e.symm
        · have h := zite_p h c
          refine g_iconst (v := (1 : Int32)) dX2_ledger_47 (by decide) ?_
          refine g_goto 52 dX2_ledger_48 (by decide) ?_
          refine g_iadd dX2_ledger_52 ?_
          refine g_leti h (fun v15 h => ?_)
          refine g_istore_n [(2, .int v15), (0, va_rf a0), (1, .int a1), (3, .int v7)] dX2_ledger_53 (by decide) (zf_r (zf_i (zf_i (zf_i zf_0)))) rfl ?_
          refine g_iinc (v := (1 : Int32)) [(2, .int v15), (0, va_rf a0), (1, .int a1)] dX2_ledger_54 3 rfl (by decide) (by decide) (zf_i (zf_r (zf_i (zf_i zf_0)))) rfl h (fun v16 h => ?_)
          refine g_goto 20 dX2_ledger_57 (by decide) ?_
          refine zG.sub [2, 3, 1, 0] rfl ?_
          have e := Option.some.inj h
          exact K5 _ _ e.symm
  have h := h1
  refine g_icmp_eq 16 dX2_ledger_2 (by decide) (fun c => ?_) (fun c => ?_)
  · have h := zite_p h c
    refine zG.sub [0, 1] rfl ?_
    have e := Option.some.inj h
    exact K1 e.symm
  · have h := zite_n h c
    refine g_aload_n dX2_ledger_5 0 rfl ?_
    refine g_iload_n dX2_ledger_6 1 rfl ?_
    refine g_cVRv (rv := fun x : Int32 => Value.int x) [.int a1] (fun x0 e0 => ok_X2_isKin (xl X) g m a0 a1 x0 e0) zc2 (by decide) (lw_V q1545 q1547 qs55 q126 q1548) rfl hy_X2_isKin rfl ⟨by decide, by decide⟩ rfl zc_0 (by decide) dX2_ledger_7 h (fun v2 h => ?_)
    refine g_if_ne 16 dX2_ledger_10 (by decide) (fun c => ?_) (fun c => ?_)
    · have h := zite_n h c
      refine zG.sub [0, 1] rfl ?_
      have e := Option.some.inj h
      exact K1 e.symm
    · have h := zite_p h c
      refine g_bipush (v := (-2 : Int32)) dX2_ledger_13 (by decide) ?_
      refine g_iret dX2_ledger_15 hxt ?_
      have e := Option.some.inj h
      have e := hl1 _ e.symm
      exact Kret _ e
/-! QuiverKinModel.fullest -/
def b_X2_fullest_4 (g : zGd) (m : zMm) (a0 : Option Nat) : Int32 × Int32 → Option ((Int32) ⊕ (Int32 × Int32)) := fun (v4, v5) =>
(zgr g m 2 0 a0).bind fun r6 =>
(zald 101 g m r6 (0 : Int32)).bind fun v7 =>
if v7 ≤ v5 then (some (.inl v4))
else ((zgr g m 2 0 a0).bind fun r8 =>
(zald 101 g m r8 ((11 : Int32) + v5)).bind fun v9 =>
((if v4 = (-1 : Int32) then (some ((0 : Int32)))
else ((zgr g m 2 0 a0).bind fun r12 =>
(zald 101 g m r12 ((11 : Int32) + v4)).bind fun v13 =>
some (v13)) : Option (Int32))).bind fun v11 =>
if v9 ≤ v11 then (zlt (v5 + (1 : Int32)) fun v14 =>
some (.inr (v4, v14)))
else (zlt (v5 + (1 : Int32)) fun v15 =>
some (.inr (v5, v15))))
def f_X2_fullest (g : zGd) (m : zMm) (a0 : Option Nat) : Option (Int32) :=
(zLoop (b_X2_fullest_4 g m a0) zFuel ((-1 : Int32), (0 : Int32))).bind fun v2 =>
some (v2)
theorem hy_X2_fullest : zHy yX2_fullest 0 := ⟨by decide, by decide, by decide +kernel⟩
set_option maxHeartbeats 4000000 in
theorem ok_X2_fullest (l : Launch) (g : zGd) (m : zMm) (a0 : Option Nat) (z0 : Int32) (h : f_X2_fullest g m a0 = some z0) : zCT l yX2_fullest cX2_fullest 3 (some .int) 1 20 g m [va_rf a0] (some (.int z0)) g m := by
  refine zCT.of (own := "QuiverKinModel") (mn := "fullest") (by decide +kernel) rfl rfl (zla_r zla_0) (zls_r zls_0) (by decide) (fun X hxl hxg hxf hxt hxr hxn => ?_)
  have Kret : ∀ (y0 : Int32), y0 = z0 → zRe X g m (some (.int y0)) := by
    intro y0 e; cases e; exact ⟨hxf, hxr, hxn⟩
  subst hxl
  show zG X cX2_fullest 3 "QuiverKinModel" "fullest" 1 20 0 [(0, va_rf a0)] [] g m
  unfold f_X2_fullest at h
  refine g_iconst (v := (-1 : Int32)) dX2_fullest_0 (by decide) ?_
  refine g_istore_n [(1, .int (-1 : Int32)), (0, va_rf a0)] dX2_fullest_1 (by decide) (zf_r zf_0) rfl ?_
  refine g_iconst (v := (0 : Int32)) dX2_fullest_2 (by decide) ?_
  refine g_istore_n [(2, .int (0 : Int32)), (1, .int (-1 : Int32)), (0, va_rf a0)] dX2_fullest_3 (by decide) (zf_i (zf_r zf_0)) rfl ?_
  obtain ⟨o1, h1, h2⟩ := zB_e h
  have K1 : ∀ (v2 : Int32), o1 = v2 → zG X cX2_fullest 3 "QuiverKinModel" "fullest" 1 20 52 [(1, .int v2)] [] g m := by
    intro v2 e
    rw [e] at h2
    have h := h2
    refine g_iload_n dX2_fullest_52 0 rfl ?_
    refine g_iret dX2_fullest_53 hxt ?_
    have e := Option.some.inj h
    exact Kret _ e
  refine zG.sub [2, 1, 0] rfl ?_
  refine zLoop_ok (Φ := (fun (q : Int32 × Int32) => match q with | (v4, v5) => zG X cX2_fullest 3 "QuiverKinModel" "fullest" 1 20 4 [(0, va_rf a0), (1, .int v4), (2, .int v5)] [] g m)) o1 ?_ zFuel _ h1
  rintro ⟨v4, v5⟩ x3 h hl3 hr3
  unfold b_X2_fullest_4 at h
  have K3 : ∀ (v4 : Int32) (v5 : Int32), x3 = .inr (v4, v5) → zG X cX2_fullest 3 "QuiverKinModel" "fullest" 1 20 4 [(0, va_rf a0), (1, .int v4), (2, .int v5)] [] g m := by
    intro v4 v5 e
    exact hr3 _ e
  show zG X cX2_fullest 3 "QuiverKinModel" "fullest" 1 20 4 [(0, va_rf a0), (1, .int v4), (2, .int v5)] [] g m
  refine g_iload_n dX2_fullest_4 2 rfl ?_
  refine g_aload_n dX2_fullest_5 0 rfl ?_
  refine gf_r zfd_2_0 q1410  (fun _ h9 => h9) dX2_fullest_6 h (fun r6 h => ?_)
  refine g_iconst (v := (0 : Int32)) dX2_fullest_9 (by decide) ?_
  refine g_iald dX2_fullest_10 h (fun v7 h => ?_)
  refine g_icmp_ge 52 dX2_fullest_11 (by decide) (fun c => ?_) (fun c => ?_)
  · have h := zite_p h c
    refine zG.sub [1] rfl ?_
    have e := Option.some.inj h
    have e := hl3 _ e.symm
    exact K1 _ e.symm
  · have h := zite_n h c
    refine g_aload_n dX2_fullest_14 0 rfl ?_
    refine gf_r zfd_2_0 q1410  (fun _ h9 => h9) dX2_fullest_15 h (fun r8 h => ?_)
    refine g_bipush (v := (11 : Int32)) dX2_fullest_18 (by decide) ?_
    refine g_iload_n dX2_fullest_20 2 rfl ?_
    refine g_iadd dX2_fullest_21 ?_
    refine g_iald dX2_fullest_22 h (fun v9 h => ?_)
    refine g_iload_n dX2_fullest_23 1 rfl ?_
    refine g_iconst (v := (-1 : Int32)) dX2_fullest_24 (by decide) ?_
    obtain ⟨o10, h1, h2⟩ := zB_e h
    have K10 : ∀ (v11 : Int32), o10 = v11 → zG X cX2_fullest 3 "QuiverKinModel" "fullest" 1 20 41 [(0, va_rf a0), (1, .int v4), (2, .int v5)] [.int v11, .int v9] g m := by
      intro v11 e
      rw [e] at h2
      have h := h2
      refine g_icmp_le 46 dX2_fullest_41 (by decide) (fun c => ?_) (fun c => ?_)
      · have h := zite_p h c
        refine g_iinc (v := (1 : Int32)) [(0, va_rf a0), (1, .int v4)] dX2_fullest_46 2 rfl (by decide) (by decide) (zf_r (zf_i (zf_i zf_0))) rfl h (fun v14 h => ?_)
        refine g_goto 4 dX2_fullest_49 (by decide) ?_
        refine zG.sub [1, 2, 0] rfl ?_
        have e := Option.some.inj h
        exact K3 _ _ e.symm
      · have h := zite_n h c
        refine g_iload_n dX2_fullest_44 2 rfl ?_
        refine g_istore_n [(1, .int v5), (0, va_rf a0), (2, .int v5)] dX2_fullest_45 (by decide) (zf_r (zf_i (zf_i zf_0))) rfl ?_
        refine g_iinc (v := (1 : Int32)) [(1, .int v5), (0, va_rf a0)] dX2_fullest_46 2 rfl (by decide) (by decide) (zf_i (zf_r (zf_i zf_0))) rfl h (fun v15 h => ?_)
        refine g_goto 4 dX2_fullest_49 (by decide) ?_
        refine zG.sub [2, 1, 0] rfl ?_
        have e := Option.some.inj h
        exact K3 _ _ e.symm
    have h := h1
    refine g_icmp_ne 32 dX2_fullest_25 (by decide) (fun c => ?_) (fun c => ?_)
    · have h := zite_n h c
      refine g_aload_n dX2_fullest_32 0 rfl ?_
      refine gf_r zfd_2_0 q1410  (fun _ h9 => h9) dX2_fullest_33 h (fun r12 h => ?_)
      refine g_bipush (v := (11 : Int32)) dX2_fullest_36 (by decide) ?_
      refine g_iload_n dX2_fullest_38 1 rfl ?_
      refine g_iadd dX2_fullest_39 ?_
      refine g_iald dX2_fullest_40 h (fun v13 h => ?_)
      refine zG.sub [0, 1, 2] rfl ?_
      have e := Option.some.inj h
      exact K10 _ e.symm
    · have h := zite_p h c
      refine g_iconst (v := (0 : Int32)) dX2_fullest_28 (by decide) ?_
      refine g_goto 41 dX2_fullest_29 (by decide) ?_
      refine zG.sub [0, 1, 2] rfl ?_
      have e := Option.some.inj h
      exact K10 _ e.symm
/-! QuiverKinModel.calm -/
def b_X2_calm_4 (g : zGd) (m : zMm) (a0 : Option Nat) : Int32 × Int32 → Option ((Int32) ⊕ (Int32 × Int32)) := fun (v4, v5) =>
(zgr g m 2 0 a0).bind fun r6 =>
(zald 101 g m r6 (0 : Int32)).bind fun v7 =>
if v7 ≤ v5 then (some (.inl v4))
else ((zgr g m 2 0 a0).bind fun r8 =>
(zald 101 g m r8 ((11 : Int32) + v5)).bind fun v9 =>
if v9 = 0 then (zlt (v4 ||| (zshl (1 : Int32) v5)) fun v12 =>
zlt (v5 + (1 : Int32)) fun v13 =>
some (.inr (v12, v13)))
else (zlt (v4 ||| (0 : Int32)) fun v10 =>
zlt (v5 + (1 : Int32)) fun v11 =>
some (.inr (v10, v11))))
def f_X2_calm (g : zGd) (m : zMm) (a0 : Option Nat) : Option (Int32) :=
(zLoop (b_X2_calm_4 g m a0) zFuel ((0 : Int32), (0 : Int32))).bind fun v2 =>
some (v2)
theorem hy_X2_calm : zHy yX2_calm 0 := ⟨by decide, by decide, by decide +kernel⟩
set_option maxHeartbeats 4000000 in
theorem ok_X2_calm (l : Launch) (g : zGd) (m : zMm) (a0 : Option Nat) (z0 : Int32) (h : f_X2_calm g m a0 = some z0) : zCT l yX2_calm cX2_calm 3 (some .int) 1 20 g m [va_rf a0] (some (.int z0)) g m := by
  refine zCT.of (own := "QuiverKinModel") (mn := "calm") (by decide +kernel) rfl rfl (zla_r zla_0) (zls_r zls_0) (by decide) (fun X hxl hxg hxf hxt hxr hxn => ?_)
  have Kret : ∀ (y0 : Int32), y0 = z0 → zRe X g m (some (.int y0)) := by
    intro y0 e; cases e; exact ⟨hxf, hxr, hxn⟩
  subst hxl
  show zG X cX2_calm 3 "QuiverKinModel" "calm" 1 20 0 [(0, va_rf a0)] [] g m
  unfold f_X2_calm at h
  refine g_iconst (v := (0 : Int32)) dX2_calm_0 (by decide) ?_
  refine g_istore_n [(1, .int (0 : Int32)), (0, va_rf a0)] dX2_calm_1 (by decide) (zf_r zf_0) rfl ?_
  refine g_iconst (v := (0 : Int32)) dX2_calm_2 (by decide) ?_
  refine g_istore_n [(2, .int (0 : Int32)), (1, .int (0 : Int32)), (0, va_rf a0)] dX2_calm_3 (by decide) (zf_i (zf_r zf_0)) rfl ?_
  obtain ⟨o1, h1, h2⟩ := zB_e h
  have K1 : ∀ (v2 : Int32), o1 = v2 → zG X cX2_calm 3 "QuiverKinModel" "calm" 1 20 42 [(1, .int v2)] [] g m := by
    intro v2 e
    rw [e] at h2
    have h := h2
    refine g_iload_n dX2_calm_42 0 rfl ?_
    refine g_iret dX2_calm_43 hxt ?_
    have e := Option.some.inj h
    exact Kret _ e
  refine zG.sub [2, 1, 0] rfl ?_
  refine zLoop_ok (Φ := (fun (q : Int32 × Int32) => match q with | (v4, v5) => zG X cX2_calm 3 "QuiverKinModel" "calm" 1 20 4 [(0, va_rf a0), (1, .int v4), (2, .int v5)] [] g m)) o1 ?_ zFuel _ h1
  rintro ⟨v4, v5⟩ x3 h hl3 hr3
  unfold b_X2_calm_4 at h
  have K3 : ∀ (v4 : Int32) (v5 : Int32), x3 = .inr (v4, v5) → zG X cX2_calm 3 "QuiverKinModel" "calm" 1 20 4 [(0, va_rf a0), (1, .int v4), (2, .int v5)] [] g m := by
    intro v4 v5 e
    exact hr3 _ e
  show zG X cX2_calm 3 "QuiverKinModel" "calm" 1 20 4 [(0, va_rf a0), (1, .int v4), (2, .int v5)] [] g m
  refine g_iload_n dX2_calm_4 2 rfl ?_
  refine g_aload_n dX2_calm_5 0 rfl ?_
  refine gf_r zfd_2_0 q1410  (fun _ h9 => h9) dX2_calm_6 h (fun r6 h => ?_)
  refine g_iconst (v := (0 : Int32)) dX2_calm_9 (by decide) ?_
  refine g_iald dX2_calm_10 h (fun v7 h => ?_)
  refine g_icmp_ge 42 dX2_calm_11 (by decide) (fun c => ?_) (fun c => ?_)
  · have h := zite_p h c
    refine zG.sub [1] rfl ?_
    have e := Option.some.inj h
    have e := hl3 _ e.symm
    exact K1 _ e.symm
  · have h := zite_n h c
    refine g_iload_n dX2_calm_14 1 rfl ?_
    refine g_aload_n dX2_calm_15 0 rfl ?_
    refine gf_r zfd_2_0 q1410  (fun _ h9 => h9) dX2_calm_16 h (fun r8 h => ?_)
    refine g_bipush (v := (11 : Int32)) dX2_calm_19 (by decide) ?_
    refine g_iload_n dX2_calm_21 2 rfl ?_
    refine g_iadd dX2_calm_22 ?_
    refine g_iald dX2_calm_23 h (fun v9 h => ?_)
    refine g_if_ne 33 dX2_calm_24 (by decide) (fun c => ?_) (fun c => ?_)
    · have h := zite_n h c
      refine g_iconst (v := (0 : Int32)) dX2_calm_33 (by decide) ?_
      refine g_ior dX2_calm_34 ?_
      refine g_leti h (fun v10 h => ?_)
      refine g_istore_n [(1, .int v10), (0, va_rf a0), (2, .int v5)] dX2_calm_35 (by decide) (zf_r (zf_i (zf_i zf_0))) rfl ?_
      refine g_iinc (v := (1 : Int32)) [(1, .int v10), (0, va_rf a0)] dX2_calm_36 2 rfl (by decide) (by decide) (zf_i (zf_r (zf_i zf_0))) rfl h (fun v11 h => ?_)
      refine g_goto 4 dX2_calm_39 (by decide) ?_
      refine zG.sub [2, 1, 0] rfl ?_
      have e := Option.some.inj h
      exact K3 _ _ e.symm
    · have h := zite_p h c
      refine g_iconst (v := (1 : Int32)) dX2_calm_27 (by decide) ?_
      refine g_iload_n dX2_calm_28 2 rfl ?_
      refine g_ishl dX2_calm_29 ?_
      refine g_goto 34 dX2_calm_30 (by decide) ?_
      refine g_ior dX2_calm_34 ?_
      refine g_leti h (fun v12 h => ?_)
      refine g_istore_n [(1, .int v12), (0, va_rf a0), (2, .int v5)] dX2_calm_35 (by decide) (zf_r (zf_i (zf_i zf_0))) rfl ?_
      refine g_iinc (v := (1 : Int32)) [(1, .int v12), (0, va_rf a0)] dX2_calm_36 2 rfl (by decide) (by decide) (zf_i (zf_r (zf_i zf_0))) rfl h (fun v13 h => ?_)
      refine g_goto 4 dX2_calm_39 (by decide) ?_
      refine zG.sub [2, 1, 0] rfl ?_
      have e := Option.some.inj h
      exact K3 _ _ e.symm
/-! QuiverKinModel.foretold -/
def b_X2_foretold_23 (g : zGd) (a0 : Option Nat) : Int32 × zMm → Option ((zMm) ⊕ (Int32 × zMm)) := fun (v6, m7) =>
if (23 : Int32) ≤ v6 then (some (.inl m7))
else ((zgr g m7 2 25 a0).bind fun r8 =>
(zgr g m7 2 0 a0).bind fun r9 =>
(zald 101 g m7 r9 v6).bind fun v10 =>
(zast 101 g m7 r8 v6 v10).bind fun m11 =>
zlt (v6 + (1 : Int32)) fun v12 =>
some (.inr (v12, m11)))
def b_X2_foretold_54 (g : zGd) (a0 : Option Nat) (a1 : Int32) : Int32 × zMm → Option ((zMm) ⊕ (Int32 × zMm)) := fun (v17, m18) =>
if a1 ≤ v17 then (some (.inl m18))
else ((zgr g m18 2 0 a0).bind fun r19 =>
(zald 101 g m18 r19 (7 : Int32)).bind fun v20 =>
if (9999 : Int32) ≤ v20 then (zlt (v17 + (1 : Int32)) fun v21 =>
some (.inr (v21, m18)))
else ((zrc g 2 a0 (f_X2_pass g m18 a0)).bind fun m22 =>
zlt (v17 + (1 : Int32)) fun v23 =>
some (.inr (v23, m22))))
def b_X2_foretold_96 (g : zGd) (a0 : Option Nat) : Int32 × zMm → Option ((zMm) ⊕ (Int32 × zMm)) := fun (v29, m30) =>
if (23 : Int32) ≤ v29 then (some (.inl m30))
else ((zgr g m30 2 0 a0).bind fun r31 =>
(zgr g m30 2 25 a0).bind fun r32 =>
(zald 101 g m30 r32 v29).bind fun v33 =>
(zast 101 g m30 r31 v29 v33).bind fun m34 =>
zlt (v29 + (1 : Int32)) fun v35 =>
some (.inr (v35, m34)))
def f_X2_foretold (g : zGd) (m : zMm) (a0 : Option Nat) (a1 : Int32) (a2 : Int32) : Option (Int32 × zMm) :=
(f_X2_isIn a1 (1 : Int32) (60 : Int32)).bind fun v1 =>
if v1 = 0 then (some (((-1 : Int32), m)))
else ((zrc g 2 a0 (f_X2_isKin g m a0 a2)).bind fun v2 =>
if v2 = 0 then (some (((-1 : Int32), m)))
else ((zLoop (b_X2_foretold_23 g a0) zFuel ((7 : Int32), m)).bind fun m4 =>
(zpz g m4 2 23 a0 (0 : Int32)).bind fun m13 =>
(zLoop (b_X2_foretold_54 g a0 a1) zFuel ((0 : Int32), m13)).bind fun m15 =>
(zgr g m15 2 0 a0).bind fun r24 =>
(zald 101 g m15 r24 ((11 : Int32) + a2)).bind fun v25 =>
(zLoop (b_X2_foretold_96 g a0) zFuel ((7 : Int32), m15)).bind fun m27 =>
(zpz g m27 2 23 a0 (1 : Int32)).bind fun m36 =>
some ((v25, m36))))
theorem hy_X2_foretold : zHy yX2_foretold 2 := ⟨by decide, by decide, by decide +kernel⟩
set_option maxHeartbeats 4000000 in
theorem ok_X2_foretold (l : Launch) (g : zGd) (m : zMm) (a0 : Option Nat) (a1 : Int32) (a2 : Int32) (z0 : Int32) (m0 : zMm) (h : f_X2_foretold g m a0 a1 a2 = some (z0, m0)) : zCT l yX2_foretold cX2_foretold 5 (some .int) 9 206 g m [va_rf a0, .int a1, .int a2] (some (.int z0)) g m0 := by
  refine zCT.of (own := "QuiverKinModel") (mn := "foretold") (by decide +kernel) rfl rfl (zla_r (zla_i (zla_i zla_0))) (zls_r (zls_i (zls_i zls_0))) (by decide) (fun X hxl hxg hxf hxt hxr hxn => ?_)
  have Kret : ∀ (y0 : Int32) (y1 : zMm), (y0, y1) = (z0, m0) → zRe X g y1 (some (.int y0)) := by
    intro y0 y1 e; cases e; exact ⟨hxf, hxr, hxn⟩
  subst hxl
  show zG X cX2_foretold 5 "QuiverKinModel" "foretold" 9 206 0 [(0, va_rf a0), (1, .int a1), (2, .int a2)] [] g m
  unfold f_X2_foretold at h
  refine g_iload_n dX2_foretold_0 1 rfl ?_
  refine g_iconst (v := (1 : Int32)) dX2_foretold_1 (by decide) ?_
  refine g_bipush (v := (60 : Int32)) dX2_foretold_2 (by decide) ?_
  refine g_cSRv (rv := fun x : Int32 => Value.int x) [.int a1, .int (1 : Int32), .int (60 : Int32)] (fun x0 e0 => ok_X2_isIn (xl X) g m a1 (1 : Int32) (60 : Int32) x0 e0) (lw_S q1534 q1535 q126 q1536) hy_X2_isIn rfl ⟨by decide, by decide⟩ rfl zc_0 (by decide) dX2_foretold_4 h (fun v1 h => ?_)
  refine g_if_eq 18 dX2_foretold_7 (by decide) (fun c => ?_) (fun c => ?_)
  · have h := zite_p h c
    refine g_iconst (v := (-1 : Int32)) dX2_foretold_18 (by decide) ?_
    refine g_iret dX2_foretold_19 hxt ?_
    have e := Option.some.inj h
    exact Kret _ _ e
  · have h := zite_n h c
    refine g_aload_n dX2_foretold_10 0 rfl ?_
    refine g_iload_n dX2_foretold_11 2 rfl ?_
    refine g_cVRv (rv := fun x : Int32 => Value.int x) [.int a2] (fun x0 e0 => ok_X2_isKin (xl X) g m a0 a2 x0 e0) zc2 (by decide) (lw_V q1545 q1547 qs55 q126 q1548) rfl hy_X2_isKin rfl ⟨by decide, by decide⟩ rfl zc_0 (by decide) dX2_foretold_12 h (fun v2 h => ?_)
    refine g_if_ne 20 dX2_foretold_15 (by decide) (fun c => ?_) (fun c => ?_)
    · have h := zite_n h c
      refine g_bipush (v := (7 : Int32)) dX2_foretold_20 (by decide) ?_
      refine g_istore_n [(3, .int (7 : Int32)), (0, va_rf a0), (1, .int a1), (2, .int a2)] dX2_foretold_22 (by decide) (zf_r (zf_i (zf_i zf_0))) rfl ?_
      obtain ⟨o3, h1, h2⟩ := zB_e h
      have K3 : ∀ (m4 : zMm), o3 = m4 → zG X cX2_foretold 5 "QuiverKinModel" "foretold" 9 206 47 [(0, va_rf a0), (1, .int a1), (2, .int a2)] [] g m4 := by
        intro m4 e
        rw [e] at h2
        have h := h2
        refine g_aload_n dX2_foretold_47 0 rfl ?_
        refine g_iconst (v := (0 : Int32)) dX2_foretold_48 (by decide) ?_
        refine gp_z zpd_2_23 q1433 (fun _ h9 => h9) dX2_foretold_49 h (fun m13 h => ?_)
        refine g_iconst (v := (0 : Int32)) dX2_foretold_52 (by decide) ?_
        refine g_istore_n [(3, .int (0 : Int32)), (0, va_rf a0), (1, .int a1), (2, .int a2)] dX2_foretold_53 (by decide) (zf_r (zf_i (zf_i zf_0))) rfl ?_
        obtain ⟨o14, h1, h2⟩ := zB_e h
        have K14 : ∀ (m15 : zMm), o14 = m15 → zG X cX2_foretold 5 "QuiverKinModel" "foretold" 9 206 82 [(0, va_rf a0), (2, .int a2)] [] g m15 := by
          intro m15 e
          rw [e] at h2
          have h := h2
          refine g_aload_n dX2_foretold_82 0 rfl ?_
          refine gf_r zfd_2_0 q1410  (fun _ h9 => h9) dX2_foretold_83 h (fun r24 h => ?_)
          refine g_bipush (v := (11 : Int32)) dX2_foretold_86 (by decide) ?_
          refine g_iload_n dX2_foretold_88 1 rfl ?_
          refine g_iadd dX2_foretold_89 ?_
          refine g_iald dX2_foretold_90 h (fun v25 h => ?_)
          refine g_istore_n [(3, .int v25), (0, va_rf a0), (2, .int a2)] dX2_foretold_91 (by decide) (zf_r (zf_i zf_0)) rfl ?_
          refine g_bipush (v := (7 : Int32)) dX2_foretold_92 (by decide) ?_
          refine g_istore [(4, .int (7 : Int32)), (3, .int v25), (0, va_rf a0), (2, .int a2)] dX2_foretold_94 (by decide) (zf_i (zf_r (zf_i zf_0))) rfl ?_
          obtain ⟨o26, h1, h2⟩ := zB_e h
          have K26 : ∀ (m27 : zMm), o26 = m27 → zG X cX2_foretold 5 "QuiverKinModel" "foretold" 9 206 123 [(0, va_rf a0), (3, .int v25)] [] g m27 := by
            intro m27 e
            rw [e] at h2
            have h := h2
            refine g_aload_n dX2_foretold_123 0 rfl ?_
            refine g_iconst (v := (1 : Int32)) dX2_foretold_124 (by decide) ?_
            refine gp_z zpd_2_23 q1433 (fun _ h9 => h9) dX2_foretold_125 h (fun m36 h => ?_)
            refine g_iload_n dX2_foretold_128 1 rfl ?_
            refine g_iret dX2_foretold_129 hxt ?_
            have e := Option.some.inj h
            exact Kret _ _ e
          refine zG.sub [2, 1, 0] rfl ?_
          refine zLoop_ok (Φ := (fun (q : Int32 × zMm) => match q with | (v29, m30) => zG X cX2_foretold 5 "QuiverKinModel" "foretold" 9 206 96 [(0, va_rf a0), (3, .int v25), (4, .int v29)] [] g m30)) o26 ?_ zFuel _ h1
          rintro ⟨v29, m30⟩ x28 h hl28 hr28
          unfold b_X2_foretold_96 at h
          have K28 : ∀ (v29 : Int32) (m30 : zMm), x28 = .inr (v29, m30) → zG X cX2_foretold 5 "QuiverKinModel" "foretold" 9 206 96 [(0, va_rf a0), (3, .int v25), (4, .int v29)] [] g m30 := by
            intro v29 m30 e
            exact hr28 _ e
          show zG X cX2_foretold 5 "QuiverKinModel" "foretold" 9 206 96 [(0, va_rf a0), (3, .int v25), (4, .int v29)] [] g m30
          refine g_iload dX2_foretold_96 2 rfl ?_
          refine g_bipush (v := (23 : Int32)) dX2_foretold_98 (by decide) ?_
          refine g_icmp_ge 123 dX2_foretold_100 (by decide) (fun c => ?_) (fun c => ?_)
          · have h := zite_p h c
            refine zG.sub [0, 1] rfl ?_
            have e := Option.some.inj h
            have e := hl28 _ e.symm
            exact K26 _ e.symm
          · have h := zite_n h c
            refine g_aload_n dX2_foretold_103 0 rfl ?_
            refine gf_r zfd_2_0 q1410  (fun _ h9 => h9) dX2_foretold_104 h (fun r31 h => ?_)
            refine g_iload dX2_foretold_107 2 rfl ?_
            refine g_aload_n dX2_foretold_109 0 rfl ?_
            refine gf_r zfd_2_25 q1435  (fun _ h9 => h9) dX2_foretold_110 h (fun r32 h => ?_)
            refine g_iload dX2_foretold_113 2 rfl ?_
            refine g_iald dX2_foretold_115 h (fun v33 h => ?_)
            refine g_iast dX2_foretold_116 h (fun m34 h => ?_)
            refine g_iinc (v := (1 : Int32)) [(0, va_rf a0), (3, .int v25)] dX2_foretold_117 2 rfl (by decide) (by decide) (zf_r (zf_i (zf_i zf_0))) rfl h (fun v35 h => ?_)
            refine g_goto 96 dX2_foretold_120 (by decide) ?_
            refine zG.sub [1, 2, 0] rfl ?_
            have e := Option.some.inj h
            exact K28 _ _ e.symm
        refine zG.sub [1, 2, 3, 0] rfl ?_
        refine zLoop_ok (Φ := (fun (q : Int32 × zMm) => match q with | (v17, m18) => zG X cX2_foretold 5 "QuiverKinModel" "foretold" 9 206 54 [(0, va_rf a0), (1, .int a1), (2, .int a2), (3, .int v17)] [] g m18)) o14 ?_ zFuel _ h1
        rintro ⟨v17, m18⟩ x16 h hl16 hr16
        unfold b_X2_foretold_54 at h
        have K16 : ∀ (v17 : Int32) (m18 : zMm), x16 = .inr (v17, m18) → zG X cX2_foretold 5 "QuiverKinModel" "foretold" 9 206 54 [(0, va_rf a0), (1, .int a1), (2, .int a2), (3, .int v17)] [] g m18 := by
          intro v17 m18 e
          exact hr16 _ e
        show zG X cX2_foretold 5 "QuiverKinModel" "foretold" 9 206 54 [(0, va_rf a0), (1, .int a1), (2, .int a2), (3, .int v17)] [] g m18
        refine g_iload_n dX2_foretold_54 3 rfl ?_
        refine g_iload_n dX2_foretold_55 1 rfl ?_
        refine g_icmp_ge 82 dX2_foretold_56 (by decide) (fun c => ?_) (fun c => ?_)
        · have h := zite_p h c
          refine zG.sub [0, 2] rfl ?_
          have e := Option.some.inj h
          have e := hl16 _ e.symm
          exact K14 _ e.symm
        · have h := zite_n h c
          refine g_aload_n dX2_foretold_59 0 rfl ?_
          refine gf_r zfd_2_0 q1410  (fun _ h9 => h9) dX2_foretold_60 h (fun r19 h => ?_)
          refine g_bipush (v := (7 : Int32)) dX2_foretold_63 (by decide) ?_
          refine g_iald dX2_foretold_65 h (fun v20 h => ?_)
          refine g_sipush (v := (9999 : Int32)) dX2_foretold_66 (by decide) ?_
          refine g_icmp_ge 76 dX2_foretold_69 (by decide) (fun c => ?_) (fun c => ?_)
          · have h := zite_p h c
            refine g_iinc (v := (1 : Int32)) [(0, va_rf a0), (1, .int a1), (2, .int a2)] dX2_foretold_76 3 rfl (by decide) (by decide) (zf_r (zf_i (zf_i (zf_i zf_0)))) rfl h (fun v21 h => ?_)
            refine g_goto 54 dX2_foretold_79 (by decide) ?_
            refine zG.sub [1, 2, 3, 0] rfl ?_
            have e := Option.some.inj h
            exact K16 _ _ e.symm
          · have h := zite_n h c
            refine g_aload_n dX2_foretold_72 0 rfl ?_
            refine g_cVMn [] (fun m0 e0 => ok_X2_pass (xl X) g m18 a0 m0 e0) zc2 (by decide) (lw_V q1760 q1762 qs89 q126 q1763) rfl hy_X2_pass rfl ⟨by decide, by decide⟩ rfl zc_0 (by decide) dX2_foretold_73 h (fun m22 h => ?_)
            refine g_iinc (v := (1 : Int32)) [(0, va_rf a0), (1, .int a1), (2, .int a2)] dX2_foretold_76 3 rfl (by decide) (by decide) (zf_r (zf_i (zf_i (zf_i zf_0)))) rfl h (fun v23 h => ?_)
            refine g_goto 54 dX2_foretold_79 (by decide) ?_
            refine zG.sub [1, 2, 3, 0] rfl ?_
            have e := Option.some.inj h
            exact K16 _ _ e.symm
      refine zG.sub [1, 2, 3, 0] rfl ?_
      refine zLoop_ok (Φ := (fun (q : Int32 × zMm) => match q with | (v6, m7) => zG X cX2_foretold 5 "QuiverKinModel" "foretold" 9 206 23 [(0, va_rf a0), (1, .int a1), (2, .int a2), (3, .int v6)] [] g m7)) o3 ?_ zFuel _ h1
      rintro ⟨v6, m7⟩ x5 h hl5 hr5
      unfold b_X2_foretold_23 at h
      have K5 : ∀ (v6 : Int32) (m7 : zMm), x5 = .inr (v6, m7) → zG X cX2_foretold 5 "QuiverKinModel" "foretold" 9 206 23 [(0, va_rf a0), (1, .int a1), (2, .int a2), (3, .int v6)] [] g m7 := by
        intro v6 m7 e
        exact hr5 _ e
      show zG X cX2_foretold 5 "QuiverKinModel" "foretold" 9 206 23 [(0, va_rf a0), (1, .int a1), (2, .int a2), (3, .int v6)] [] g m7
      refine g_iload_n dX2_foretold_23 3 rfl ?_
      refine g_bipush (v := (23 : Int32)) dX2_foretold_24 (by decide) ?_
      refine g_icmp_ge 47 dX2_foretold_26 (by decide) (fun c => ?_) (fun c => ?_)
      · have h := zite_p h c
        refine zG.sub [0, 1, 2] rfl ?_
        have e := Option.some.inj h
        have e := hl5 _ e.symm
        exact K3 _ e.symm
      · have h := zite_n h c
        refine g_aload_n dX2_foretold_29 0 rfl ?_
        refine gf_r zfd_2_25 q1435  (fun _ h9 => h9) dX2_foretold_30 h (fun r8 h => ?_)
        refine g_iload_n dX2_foretold_33 3 rfl ?_
        refine g_aload_n dX2_foretold_34 0 rfl ?_
        refine gf_r zfd_2_0 q1410  (fun _ h9 => h9) dX2_foretold_35 h (fun r9 h => ?_)
        refine g_iload_n dX2_foretold_38 3 rfl ?_
        refine g_iald dX2_foretold_39 h (fun v10 h => ?_)
        refine g_iast dX2_foretold_40 h (fun m11 h => ?_)
        refine g_iinc (v := (1 : Int32)) [(0, va_rf a0), (1, .int a1), (2, .int a2)] dX2_foretold_41 3 rfl (by decide) (by decide) (zf_r (zf_i (zf_i (zf_i zf_0)))) rfl h (fun v12 h => ?_)
        refine g_goto 23 dX2_foretold_44 (by decide) ?_
        refine zG.sub [1, 2, 3, 0] rfl ?_
        have e := Option.some.inj h
        exact K5 _ _ e.symm
    · have h := zite_p h c
      refine g_iconst (v := (-1 : Int32)) dX2_foretold_18 (by decide) ?_
      refine g_iret dX2_foretold_19 hxt ?_
      have e := Option.some.inj h
      exact Kret _ _ e
/-! QuiverKinModel.factorial -/
def b_X2_factorial_4 (a0 : Int32) : Int32 × Int32 → Option ((Int32) ⊕ (Int32 × Int32)) := fun (v4, v5) =>
if a0 < v5 then (some (.inl v4))
else (zlt (v4 * v5) fun v6 =>
zlt (v5 + (1 : Int32)) fun v7 =>
some (.inr (v6, v7)))
def f_X2_factorial (a0 : Int32) : Option (Int32) :=
(zLoop (b_X2_factorial_4 a0) zFuel ((1 : Int32), (2 : Int32))).bind fun v2 =>
some (v2)
theorem hy_X2_factorial : zHy yX2_factorial 1 := ⟨by decide, by decide, by decide +kernel⟩
set_option maxHeartbeats 4000000 in
theorem ok_X2_factorial (l : Launch) (g : zGd) (m : zMm) (a0 : Int32) (z0 : Int32) (h : f_X2_factorial a0 = some z0) : zCT l yX2_factorial cX2_factorial 3 (some .int) 1 20 g m [.int a0] (some (.int z0)) g m := by
  refine zCT.of (own := "QuiverKinModel") (mn := "factorial") (by decide +kernel) rfl rfl (zla_i zla_0) (zls_i zls_0) (by decide) (fun X hxl hxg hxf hxt hxr hxn => ?_)
  have Kret : ∀ (y0 : Int32), y0 = z0 → zRe X g m (some (.int y0)) := by
    intro y0 e; cases e; exact ⟨hxf, hxr, hxn⟩
  subst hxl
  show zG X cX2_factorial 3 "QuiverKinModel" "factorial" 1 20 0 [(0, .int a0)] [] g m
  unfold f_X2_factorial at h
  refine g_iconst (v := (1 : Int32)) dX2_factorial_0 (by decide) ?_
  refine g_istore_n [(1, .int (1 : Int32)), (0, .int a0)] dX2_factorial_1 (by decide) (zf_i zf_0) rfl ?_
  refine g_iconst (v := (2 : Int32)) dX2_factorial_2 (by decide) ?_
  refine g_istore_n [(2, .int (2 : Int32)), (1, .int (1 : Int32)), (0, .int a0)] dX2_factorial_3 (by decide) (zf_i (zf_i zf_0)) rfl ?_
  obtain ⟨o1, h1, h2⟩ := zB_e h
  have K1 : ∀ (v2 : Int32), o1 = v2 → zG X cX2_factorial 3 "QuiverKinModel" "factorial" 1 20 19 [(1, .int v2)] [] g m := by
    intro v2 e
    rw [e] at h2
    have h := h2
    refine g_iload_n dX2_factorial_19 0 rfl ?_
    refine g_iret dX2_factorial_20 hxt ?_
    have e := Option.some.inj h
    exact Kret _ e
  refine zG.sub [2, 1, 0] rfl ?_
  refine zLoop_ok (Φ := (fun (q : Int32 × Int32) => match q with | (v4, v5) => zG X cX2_factorial 3 "QuiverKinModel" "factorial" 1 20 4 [(0, .int a0), (1, .int v4), (2, .int v5)] [] g m)) o1 ?_ zFuel _ h1
  rintro ⟨v4, v5⟩ x3 h hl3 hr3
  unfold b_X2_factorial_4 at h
  have K3 : ∀ (v4 : Int32) (v5 : Int32), x3 = .inr (v4, v5) → zG X cX2_factorial 3 "QuiverKinModel" "factorial" 1 20 4 [(0, .int a0), (1, .int v4), (2, .int v5)] [] g m := by
    intro v4 v5 e
    exact hr3 _ e
  show zG X cX2_factorial 3 "QuiverKinModel" "factorial" 1 20 4 [(0, .int a0), (1, .int v4), (2, .int v5)] [] g m
  refine g_iload_n dX2_factorial_4 2 rfl ?_
  refine g_iload_n dX2_factorial_5 0 rfl ?_
  refine g_icmp_gt 19 dX2_factorial_6 (by decide) (fun c => ?_) (fun c => ?_)
  · have h := zite_p h c
    refine zG.sub [1] rfl ?_
    have e := Option.some.inj h
    have e := hl3 _ e.symm
    exact K1 _ e.symm
  · have h := zite_n h c
    refine g_iload_n dX2_factorial_9 1 rfl ?_
    refine g_iload_n dX2_factorial_10 2 rfl ?_
    refine g_imul dX2_factorial_11 ?_
    refine g_leti h (fun v6 h => ?_)
    refine g_istore_n [(1, .int v6), (0, .int a0), (2, .int v5)] dX2_factorial_12 (by decide) (zf_i (zf_i (zf_i zf_0))) rfl ?_
    refine g_iinc (v := (1 : Int32)) [(1, .int v6), (0, .int a0)] dX2_factorial_13 2 rfl (by decide) (by decide) (zf_i (zf_i (zf_i zf_0))) rfl h (fun v7 h => ?_)
    refine g_goto 4 dX2_factorial_16 (by decide) ?_
    refine zG.sub [2, 1, 0] rfl ?_
    have e := Option.some.inj h
    exact K3 _ _ e.symm
/-! QuiverKinModel.layRow -/
def b_X2_layRow_63 (v7 : Int32) : Int32 × Int32 → Option ((Int32) ⊕ (Int32 × Int32)) := fun (v23, v24) =>
(f_X2_has v7 v24).bind fun v25 =>
zEx (σ := Unit) (if v25 = 0 then (if v23 ≤ 0 then (some (.inl (.inl v24)))
else (some (.inr ())))
else (some (.inr ()))) fun _ =>
(f_X2_has v7 v24).bind fun v27 =>
if v27 = 0 then (zlt (v23 - (1 : Int32)) fun v28 =>
zlt (v24 + (1 : Int32)) fun v29 =>
some (.inr (v28, v29)))
else (zlt (v23 - (0 : Int32)) fun v30 =>
zlt (v24 + (1 : Int32)) fun v31 =>
some (.inr (v30, v31)))
def b_X2_layRow_14 (g : zGd) (a0 : Option Nat) : Int32 × Int32 × Int32 × zMm → Option ((zMm) ⊕ (Int32 × Int32 × Int32 × zMm)) := fun (v6, v7, v8, m9) =>
(zgr g m9 2 0 a0).bind fun r10 =>
(zald 101 g m9 r10 (0 : Int32)).bind fun v11 =>
if v11 ≤ v8 then (some (.inl m9))
else ((zgr g m9 2 0 a0).bind fun r12 =>
(zald 101 g m9 r12 (0 : Int32)).bind fun v13 =>
(f_X2_factorial ((v13 - (1 : Int32)) - v8)).bind fun v14 =>
(zdiv v6 v14).bind fun v15 =>
(zgr g m9 2 0 a0).bind fun r16 =>
(zald 101 g m9 r16 (0 : Int32)).bind fun v17 =>
(f_X2_factorial ((v17 - (1 : Int32)) - v8)).bind fun v18 =>
(zmod v6 v18).bind fun v19 =>
(zLoop (b_X2_layRow_63 v7) zFuel (v15, (0 : Int32))).bind fun v21 =>
zlt (v7 ||| (zshl (1 : Int32) v21)) fun v32 =>
(zgr g m9 2 26 a0).bind fun r33 =>
(zast 101 g m9 r33 v8 v21).bind fun m34 =>
zlt (v8 + (1 : Int32)) fun v35 =>
some (.inr (v19, v32, v35, m34)))
def f_X2_layRow (g : zGd) (m : zMm) (a0 : Option Nat) (a1 : Int32) : Option (zMm) :=
(zgr g m 2 26 a0).bind fun r1 =>
(zast 101 g m r1 (0 : Int32) (0 : Int32)).bind fun m2 =>
(zLoop (b_X2_layRow_14 g a0) zFuel (a1, (1 : Int32), (1 : Int32), m2)).bind fun m4 =>
some (m4)
theorem hy_X2_layRow : zHy yX2_layRow 1 := ⟨by decide, by decide, by decide +kernel⟩
set_option maxHeartbeats 4000000 in
theorem ok_X2_layRow (l : Launch) (g : zGd) (m : zMm) (a0 : Option Nat) (a1 : Int32) (m0 : zMm) (h : f_X2_layRow g m a0 a1 = some m0) : zCT l yX2_layRow cX2_layRow 7 none 2 42 g m [va_rf a0, .int a1] none g m0 := by
  refine zCT.of (own := "QuiverKinModel") (mn := "layRow") (by decide +kernel) rfl rfl (zla_r (zla_i zla_0)) (zls_r (zls_i zls_0)) (by decide) (fun X hxl hxg hxf hxt hxr hxn => ?_)
  have Kret : ∀ (y0 : zMm), y0 = m0 → zRe X g y0 none := by
    intro y0 e; cases e; exact ⟨hxf, hxr, hxn⟩
  subst hxl
  show zG X cX2_layRow 7 "QuiverKinModel" "layRow" 2 42 0 [(0, va_rf a0), (1, .int a1)] [] g m
  unfold f_X2_layRow at h
  refine g_iload_n dX2_layRow_0 1 rfl ?_
  refine g_istore_n [(2, .int a1), (0, va_rf a0), (1, .int a1)] dX2_layRow_1 (by decide) (zf_r (zf_i zf_0)) rfl ?_
  refine g_iconst (v := (1 : Int32)) dX2_layRow_2 (by decide) ?_
  refine g_istore_n [(3, .int (1 : Int32)), (2, .int a1), (0, va_rf a0), (1, .int a1)] dX2_layRow_3 (by decide) (zf_i (zf_r (zf_i zf_0))) rfl ?_
  refine g_aload_n dX2_layRow_4 2 rfl ?_
  refine gf_r zfd_2_26 q1436  (fun _ h9 => h9) dX2_layRow_5 h (fun r1 h => ?_)
  refine g_iconst (v := (0 : Int32)) dX2_layRow_8 (by decide) ?_
  refine g_iconst (v := (0 : Int32)) dX2_layRow_9 (by decide) ?_
  refine g_iast dX2_layRow_10 h (fun m2 h => ?_)
  refine g_iconst (v := (1 : Int32)) dX2_layRow_11 (by decide) ?_
  refine g_istore [(4, .int (1 : Int32)), (3, .int (1 : Int32)), (2, .int a1), (0, va_rf a0), (1, .int a1)] dX2_layRow_12 (by decide) (zf_i (zf_i (zf_r (zf_i zf_0)))) rfl ?_
  obtain ⟨o3, h1, h2⟩ := zB_e h
  have K3 : ∀ (m4 : zMm), o3 = m4 → zG X cX2_layRow 7 "QuiverKinModel" "layRow" 2 42 124 [] [] g m4 := by
    intro m4 e
    rw [e] at h2
    have h := h2
    refine g_vret dX2_layRow_124 hxt ?_
    have e := Option.some.inj h
    exact Kret _ e
  refine zG.sub [3, 2, 1, 0] rfl ?_
  refine zLoop_ok (Φ := (fun (q : Int32 × Int32 × Int32 × zMm) => match q with | (v6, v7, v8, m9) => zG X cX2_layRow 7 "QuiverKinModel" "layRow" 2 42 14 [(0, va_rf a0), (2, .int v6), (3, .int v7), (4, .int v8)] [] g m9)) o3 ?_ zFuel _ h1
  rintro ⟨v6, v7, v8, m9⟩ x5 h hl5 hr5
  unfold b_X2_layRow_14 at h
  have K5 : ∀ (v6 : Int32) (v7 : Int32) (v8 : Int32) (m9 : zMm), x5 = .inr (v6, v7, v8, m9) → zG X cX2_layRow 7 "QuiverKinModel" "layRow" 2 42 14 [(0, va_rf a0), (2, .int v6), (3, .int v7), (4, .int v8)] [] g m9 := by
    intro v6 v7 v8 m9 e
    exact hr5 _ e
  show zG X cX2_layRow 7 "QuiverKinModel" "layRow" 2 42 14 [(0, va_rf a0), (2, .int v6), (3, .int v7), (4, .int v8)] [] g m9
  refine g_iload dX2_layRow_14 3 rfl ?_
  refine g_aload_n dX2_layRow_16 0 rfl ?_
  refine gf_r zfd_2_0 q1410  (fun _ h9 => h9) dX2_layRow_17 h (fun r10 h => ?_)
  refine g_iconst (v := (0 : Int32)) dX2_layRow_20 (by decide) ?_
  refine g_iald dX2_layRow_21 h (fun v11 h => ?_)
  refine g_icmp_ge 124 dX2_layRow_22 (by decide) (fun c => ?_) (fun c => ?_)
  · have h := zite_p h c
    refine zG.sub [] rfl ?_
    have e := Option.some.inj h
    have e := hl5 _ e.symm
    exact K3 _ e.symm
  · have h := zite_n h c
    refine g_iload_n dX2_layRow_25 1 rfl ?_
    refine g_aload_n dX2_layRow_26 0 rfl ?_
    refine gf_r zfd_2_0 q1410  (fun _ h9 => h9) dX2_layRow_27 h (fun r12 h => ?_)
    refine g_iconst (v := (0 : Int32)) dX2_layRow_30 (by decide) ?_
    refine g_iald dX2_layRow_31 h (fun v13 h => ?_)
    refine g_iconst (v := (1 : Int32)) dX2_layRow_32 (by decide) ?_
    refine g_isub dX2_layRow_33 ?_
    refine g_iload dX2_layRow_34 3 rfl ?_
    refine g_isub dX2_layRow_36 ?_
    refine g_cSRv (rv := fun x : Int32 => Value.int x) [.int ((v13 - (1 : Int32)) - v8)] (fun x0 e0 => ok_X2_factorial (xl X) g m9 ((v13 - (1 : Int32)) - v8) x0 e0) (lw_S q1903 q1904 q126 q1905) hy_X2_factorial rfl ⟨by decide, by decide⟩ rfl (zc_i zc_0) (by decide) dX2_layRow_37 h (fun v14 h => ?_)
    refine g_idiv dX2_layRow_40 h (fun v15 h => ?_)
    refine g_istore [(5, .int v15), (0, va_rf a0), (2, .int v6), (3, .int v7), (4, .int v8)] dX2_layRow_41 (by decide) (zf_r (zf_i (zf_i (zf_i zf_0)))) rfl ?_
    refine g_iload_n dX2_layRow_43 2 rfl ?_
    refine g_aload_n dX2_layRow_44 1 rfl ?_
    refine gf_r zfd_2_0 q1410  (fun _ h9 => h9) dX2_layRow_45 h (fun r16 h => ?_)
    refine g_iconst (v := (0 : Int32)) dX2_layRow_48 (by decide) ?_
    refine g_iald dX2_layRow_49 h (fun v17 h => ?_)
    refine g_iconst (v := (1 : Int32)) dX2_layRow_50 (by decide) ?_
    refine g_isub dX2_layRow_51 ?_
    refine g_iload dX2_layRow_52 4 rfl ?_
    refine g_isub dX2_layRow_54 ?_
    refine g_cSRv (rv := fun x : Int32 => Value.int x) [.int ((v17 - (1 : Int32)) - v8)] (fun x0 e0 => ok_X2_factorial (xl X) g m9 ((v17 - (1 : Int32)) - v8) x0 e0) (lw_S q1903 q1904 q126 q1905) hy_X2_factorial rfl ⟨by decide, by decide⟩ rfl (zc_i zc_0) (by decide) dX2_layRow_55 h (fun v18 h => ?_)
    refine g_irem dX2_layRow_58 h (fun v19 h => ?_)
    refine g_istore_n [(2, .int v19), (5, .int v15), (0, va_rf a0), (3, .int v7), (4, .int v8)] dX2_layRow_59 (by decide) (zf_i (zf_r (zf_i (zf_i (zf_i zf_0))))) rfl ?_
    refine g_iconst (v := (0 : Int32)) dX2_layRow_60 (by decide) ?_
    refine g_istore [(6, .int (0 : Int32)), (2, .int v19), (5, .int v15), (0, va_rf a0), (3, .int v7), (4, .int v8)] dX2_layRow_61 (by decide) (zf_i (zf_i (zf_r (zf_i (zf_i zf_0))))) rfl ?_
    obtain ⟨o20, h1, h2⟩ := zB_e h
    have K20 : ∀ (v21 : Int32), o20 = v21 → zG X cX2_layRow 7 "QuiverKinModel" "layRow" 2 42 102 [(0, va_rf a0), (2, .int v19), (3, .int v7), (4, .int v8), (6, .int v21)] [] g m9 := by
      intro v21 e
      rw [e] at h2
      have h := h2
      refine g_iload_n dX2_layRow_102 2 rfl ?_
      refine g_iconst (v := (1 : Int32)) dX2_layRow_103 (by decide) ?_
      refine g_iload dX2_layRow_104 4 rfl ?_
      refine g_ishl dX2_layRow_106 ?_
      refine g_ior dX2_layRow_107 ?_
      refine g_leti h (fun v32 h => ?_)
      refine g_istore_n [(3, .int v32), (0, va_rf a0), (2, .int v19), (4, .int v8), (6, .int v21)] dX2_layRow_108 (by decide) (zf_r (zf_i (zf_i (zf_i (zf_i zf_0))))) rfl ?_
      refine g_aload_n dX2_layRow_109 1 rfl ?_
      refine gf_r zfd_2_26 q1436  (fun _ h9 => h9) dX2_layRow_110 h (fun r33 h => ?_)
      refine g_iload dX2_layRow_113 3 rfl ?_
      refine g_iload dX2_layRow_115 4 rfl ?_
      refine g_iast dX2_layRow_117 h (fun m34 h => ?_)
      refine g_iinc (v := (1 : Int32)) [(3, .int v32), (0, va_rf a0), (2, .int v19), (6, .int v21)] dX2_layRow_118 3 rfl (by decide) (by decide) (zf_i (zf_r (zf_i (zf_i (zf_i zf_0))))) rfl h (fun v35 h => ?_)
      refine g_goto 14 dX2_layRow_121 (by decide) ?_
      refine zG.sub [2, 3, 1, 0] rfl ?_
      have e := Option.some.inj h
      exact K5 _ _ _ _ e.symm
    refine zG.sub [3, 1, 4, 5, 2, 0] rfl ?_
    refine zLoop_ok (Φ := (fun (q : Int32 × Int32) => match q with | (v23, v24) => zG X cX2_layRow 7 "QuiverKinModel" "layRow" 2 42 63 [(0, va_rf a0), (2, .int v19), (3, .int v7), (4, .int v8), (5, .int v23), (6, .int v24)] [] g m9)) o20 ?_ zFuel _ h1
    rintro ⟨v23, v24⟩ x22 h hl22 hr22
    unfold b_X2_layRow_63 at h
    have K22 : ∀ (v23 : Int32) (v24 : Int32), x22 = .inr (v23, v24) → zG X cX2_layRow 7 "QuiverKinModel" "layRow" 2 42 63 [(0, va_rf a0), (2, .int v19), (3, .int v7), (4, .int v8), (5, .int v23), (6, .int v24)] [] g m9 := by
      intro v23 v24 e
      exact hr22 _ e
    show zG X cX2_layRow 7 "QuiverKinModel" "layRow" 2 42 63 [(0, va_rf a0), (2, .int v19), (3, .int v7), (4, .int v8), (5, .int v23), (6, .int v24)] [] g m9
    refine g_iload_n dX2_layRow_63 2 rfl ?_
    refine g_iload dX2_layRow_64 5 rfl ?_
    refine g_cSRv (rv := fun x : Int32 => Value.int x) [.int v7, .int v24] (fun x0 e0 => ok_X2_has (xl X) g m9 v7 v24 x0 e0) (lw_S q1619 q1620 q126 q1621) hy_X2_has rfl ⟨by decide, by decide⟩ rfl zc_0 (by decide) dX2_layRow_66 h (fun v25 h => ?_)
    obtain ⟨o26, h1, hl26, hr26⟩ := zEx_e h
    have K26 : o26 = .inr () → zG X cX2_layRow 7 "QuiverKinModel" "layRow" 2 42 77 [(0, va_rf a0), (2, .int v19), (3, .int v7), (4, .int v8), (5, .int v23), (6, .int v24)] [] g m9 := by
      intro e
      have h := hr26 _ e
      refine g_iload dX2_layRow_77 4 rfl ?_
      refine g_iload_n dX2_layRow_79 2 rfl ?_
      refine g_iload dX2_layRow_80 5 rfl ?_
      refine g_cSRv (rv := fun x : Int32 => Value.int x) [.int v7, .int v24] (fun x0 e0 => ok_X2_has (xl X) g m9 v7 v24 x0 e0) (lw_S q1619 q1620 q126 q1621) hy_X2_has rfl ⟨by decide, by decide⟩ rfl (zc_i zc_0) (by decide) dX2_layRow_82 h (fun v27 h => ?_)
      refine g_if_eq 92 dX2_layRow_85 (by decide) (fun c => ?_) (fun c => ?_)
      · have h := zite_p h c
        refine g_iconst (v := (1 : Int32)) dX2_layRow_92 (by decide) ?_
        refine g_isub dX2_layRow_93 ?_
        refine g_leti h (fun v28 h => ?_)
        refine g_istore [(5, .int v28), (0, va_rf a0), (2, .int v19), (3, .int v7), (4, .int v8), (6, .int v24)] dX2_layRow_94 (by decide) (zf_r (zf_i (zf_i (zf_i (zf_i (zf_i zf_0)))))) rfl ?_
        refine g_iinc (v := (1 : Int32)) [(5, .int v28), (0, va_rf a0), (2, .int v19), (3, .int v7), (4, .int v8)] dX2_layRow_96 5 rfl (by decide) (by decide) (zf_i (zf_r (zf_i (zf_i (zf_i (zf_i zf_0)))))) rfl h (fun v29 h => ?_)
        refine g_goto 63 dX2_layRow_99 (by decide) ?_
        refine zG.sub [2, 3, 4, 5, 1, 0] rfl ?_
        have e := Option.some.inj h
        exact K22 _ _ e.symm
      · have h := zite_n h c
        refine g_iconst (v := (0 : Int32)) dX2_layRow_88 (by decide) ?_
        refine g_goto 93 dX2_layRow_89 (by decide) ?_
        refine g_isub dX2_layRow_93 ?_
        refine g_leti h (fun v30 h => ?_)
        refine g_istore [(5, .int v30), (0, va_rf a0), (2, .int v19), (3, .int v7), (4, .int v8), (6, .int v24)] dX2_layRow_94 (by decide) (zf_r (zf_i (zf_i (zf_i (zf_i (zf_i zf_0)))))) rfl ?_
        refine g_iinc (v := (1 : Int32)) [(5, .int v30), (0, va_rf a0), (2, .int v19), (3, .int v7), (4, .int v8)] dX2_layRow_96 5 rfl (by decide) (by decide) (zf_i (zf_r (zf_i (zf_i (zf_i (zf_i zf_0)))))) rfl h (fun v31 h => ?_)
        refine g_goto 63 dX2_layRow_99 (by decide) ?_
        refine zG.sub [2, 3, 4, 5, 1, 0] rfl ?_
        have e := Option.some.inj h
        exact K22 _ _ e.symm
    have h := h1
    refine g_if_ne 77 dX2_layRow_69 (by decide) (fun c => ?_) (fun c => ?_)
    · have h := zite_n h c
      refine zG.sub [0, 1, 2, 3, 4, 5] rfl ?_
      have e := Option.some.inj h
      exact K26 e.symm
    · have h := zite_p h c
      refine g_iload dX2_layRow_72 4 rfl ?_
      refine g_if_le 102 dX2_layRow_74 (by decide) (fun c => ?_) (fun c => ?_)
      · have h := zite_p h c
        refine zG.sub [0, 1, 2, 3, 5] rfl ?_
        have e := Option.some.inj h
        have e := hl26 _ e.symm
        have e := hl22 _ e.symm
        exact K20 _ e.symm
      · have h := zite_n h c
        refine zG.sub [0, 1, 2, 3, 4, 5] rfl ?_
        have e := Option.some.inj h
        exact K26 e.symm
/-! QuiverKinModel.seatingsInAll -/
def f_X2_seatingsInAll (g : zGd) (m : zMm) (a0 : Option Nat) : Option (Int32) :=
(zgr g m 2 0 a0).bind fun r1 =>
(zald 101 g m r1 (0 : Int32)).bind fun v2 =>
(f_X2_factorial (v2 - (1 : Int32))).bind fun v3 =>
some (v3)
theorem hy_X2_seatingsInAll : zHy yX2_seatingsInAll 0 := ⟨by decide, by decide, by decide +kernel⟩
set_option maxHeartbeats 4000000 in
theorem ok_X2_seatingsInAll (l : Launch) (g : zGd) (m : zMm) (a0 : Option Nat) (z0 : Int32) (h : f_X2_seatingsInAll g m a0 = some z0) : zCT l yX2_seatingsInAll cX2_seatingsInAll 1 (some .int) 2 42 g m [va_rf a0] (some (.int z0)) g m := by
  refine zCT.of (own := "QuiverKinModel") (mn := "seatingsInAll") (by decide +kernel) rfl rfl (zla_r zla_0) (zls_r zls_0) (by decide) (fun X hxl hxg hxf hxt hxr hxn => ?_)
  have Kret : ∀ (y0 : Int32), y0 = z0 → zRe X g m (some (.int y0)) := by
    intro y0 e; cases e; exact ⟨hxf, hxr, hxn⟩
  subst hxl
  show zG X cX2_seatingsInAll 1 "QuiverKinModel" "seatingsInAll" 2 42 0 [(0, va_rf a0)] [] g m
  unfold f_X2_seatingsInAll at h
  refine g_aload_n dX2_seatingsInAll_0 0 rfl ?_
  refine gf_r zfd_2_0 q1410  (fun _ h9 => h9) dX2_seatingsInAll_1 h (fun r1 h => ?_)
  refine g_iconst (v := (0 : Int32)) dX2_seatingsInAll_4 (by decide) ?_
  refine g_iald dX2_seatingsInAll_5 h (fun v2 h => ?_)
  refine g_iconst (v := (1 : Int32)) dX2_seatingsInAll_6 (by decide) ?_
  refine g_isub dX2_seatingsInAll_7 ?_
  refine g_cSRv (rv := fun x : Int32 => Value.int x) [.int (v2 - (1 : Int32))] (fun x0 e0 => ok_X2_factorial (xl X) g m (v2 - (1 : Int32)) x0 e0) (lw_S q1903 q1904 q126 q1905) hy_X2_factorial rfl ⟨by decide, by decide⟩ rfl zc_0 (by decide) dX2_seatingsInAll_8 h (fun v3 h => ?_)
  refine g_iret dX2_seatingsInAll_11 hxt ?_
  have e := Option.some.inj h
  exact Kret _ e
/-! QuiverKinModel.spiteOfRow -/
def b_X2_spiteOfRow_11 (g : zGd) (m : zMm) (a0 : Option Nat) (v2 : Int32) : Int32 × Int32 → Option ((Int32) ⊕ (Int32 × Int32)) := fun (v6, v7) =>
if v2 ≤ v7 then (some (.inl v6))
else (zEx (σ := Unit) (if (2 : Int32) < v2 then (some (.inr ()))
else (if (v2 - (1 : Int32)) ≤ v7 then (zlt (v7 + (1 : Int32)) fun v9 =>
some (.inl (.inr (v6, v9))))
else (some (.inr ())))) fun _ =>
(zgr g m 2 0 a0).bind fun r10 =>
(zgr g m 2 26 a0).bind fun r11 =>
(zald 101 g m r11 v7).bind fun v12 =>
(zgr g m 2 26 a0).bind fun r13 =>
(zmod (v7 + (1 : Int32)) v2).bind fun v14 =>
(zald 101 g m r13 v14).bind fun v15 =>
(zald 101 g m r10 (((35 : Int32) + ((6 : Int32) * v12)) + v15)).bind fun v16 =>
zlt (v6 + v16) fun v17 =>
zlt (v7 + (1 : Int32)) fun v18 =>
some (.inr (v17, v18)))
def f_X2_spiteOfRow (g : zGd) (m : zMm) (a0 : Option Nat) : Option (Int32) :=
(zgr g m 2 0 a0).bind fun r1 =>
(zald 101 g m r1 (0 : Int32)).bind fun v2 =>
(zLoop (b_X2_spiteOfRow_11 g m a0 v2) zFuel ((0 : Int32), (0 : Int32))).bind fun v4 =>
some (v4)
theorem hy_X2_spiteOfRow : zHy yX2_spiteOfRow 0 := ⟨by decide, by decide, by decide +kernel⟩
set_option maxHeartbeats 4000000 in
theorem ok_X2_spiteOfRow (l : Launch) (g : zGd) (m : zMm) (a0 : Option Nat) (z0 : Int32) (h : f_X2_spiteOfRow g m a0 = some z0) : zCT l yX2_spiteOfRow cX2_spiteOfRow 4 (some .int) 1 20 g m [va_rf a0] (some (.int z0)) g m := by
  refine zCT.of (own := "QuiverKinModel") (mn := "spiteOfRow") (by decide +kernel) rfl rfl (zla_r zla_0) (zls_r zls_0) (by decide) (fun X hxl hxg hxf hxt hxr hxn => ?_)
  have Kret : ∀ (y0 : Int32), y0 = z0 → zRe X g m (some (.int y0)) := by
    intro y0 e; cases e; exact ⟨hxf, hxr, hxn⟩
  subst hxl
  show zG X cX2_spiteOfRow 4 "QuiverKinModel" "spiteOfRow" 1 20 0 [(0, va_rf a0)] [] g m
  unfold f_X2_spiteOfRow at h
  refine g_aload_n dX2_spiteOfRow_0 0 rfl ?_
  refine gf_r zfd_2_0 q1410  (fun _ h9 => h9) dX2_spiteOfRow_1 h (fun r1 h => ?_)
  refine g_iconst (v := (0 : Int32)) dX2_spiteOfRow_4 (by decide) ?_
  refine g_iald dX2_spiteOfRow_5 h (fun v2 h => ?_)
  refine g_istore_n [(1, .int v2), (0, va_rf a0)] dX2_spiteOfRow_6 (by decide) (zf_r zf_0) rfl ?_
  refine g_iconst (v := (0 : Int32)) dX2_spiteOfRow_7 (by decide) ?_
  refine g_istore_n [(2, .int (0 : Int32)), (1, .int v2), (0, va_rf a0)] dX2_spiteOfRow_8 (by decide) (zf_i (zf_r zf_0)) rfl ?_
  refine g_iconst (v := (0 : Int32)) dX2_spiteOfRow_9 (by decide) ?_
  refine g_istore_n [(3, .int (0 : Int32)), (2, .int (0 : Int32)), (1, .int v2), (0, va_rf a0)] dX2_spiteOfRow_10 (by decide) (zf_i (zf_i (zf_r zf_0))) rfl ?_
  obtain ⟨o3, h1, h2⟩ := zB_e h
  have K3 : ∀ (v4 : Int32), o3 = v4 → zG X cX2_spiteOfRow 4 "QuiverKinModel" "spiteOfRow" 1 20 65 [(2, .int v4)] [] g m := by
    intro v4 e
    rw [e] at h2
    have h := h2
    refine g_iload_n dX2_spiteOfRow_65 0 rfl ?_
    refine g_iret dX2_spiteOfRow_66 hxt ?_
    have e := Option.some.inj h
    exact Kret _ e
  refine zG.sub [3, 2, 1, 0] rfl ?_
  refine zLoop_ok (Φ := (fun (q : Int32 × Int32) => match q with | (v6, v7) => zG X cX2_spiteOfRow 4 "QuiverKinModel" "spiteOfRow" 1 20 11 [(0, va_rf a0), (1, .int v2), (2, .int v6), (3, .int v7)] [] g m)) o3 ?_ zFuel _ h1
  rintro ⟨v6, v7⟩ x5 h hl5 hr5
  unfold b_X2_spiteOfRow_11 at h
  have K5 : ∀ (v6 : Int32) (v7 : Int32), x5 = .inr (v6, v7) → zG X cX2_spiteOfRow 4 "QuiverKinModel" "spiteOfRow" 1 20 11 [(0, va_rf a0), (1, .int v2), (2, .int v6), (3, .int v7)] [] g m := by
    intro v6 v7 e
    exact hr5 _ e
  show zG X cX2_spiteOfRow 4 "QuiverKinModel" "spiteOfRow" 1 20 11 [(0, va_rf a0), (1, .int v2), (2, .int v6), (3, .int v7)] [] g m
  refine g_iload_n dX2_spiteOfRow_11 3 rfl ?_
  refine g_iload_n dX2_spiteOfRow_12 1 rfl ?_
  refine g_icmp_ge 65 dX2_spiteOfRow_13 (by decide) (fun c => ?_) (fun c => ?_)
  · have h := zite_p h c
    refine zG.sub [2] rfl ?_
    have e := Option.some.inj h
    have e := hl5 _ e.symm
    exact K3 _ e.symm
  · have h := zite_n h c
    refine g_iload_n dX2_spiteOfRow_16 1 rfl ?_
    refine g_iconst (v := (2 : Int32)) dX2_spiteOfRow_17 (by decide) ?_
    obtain ⟨o8, h1, hl8, hr8⟩ := zEx_e h
    have K8 : o8 = .inr () → zG X cX2_spiteOfRow 4 "QuiverKinModel" "spiteOfRow" 1 20 28 [(0, va_rf a0), (1, .int v2), (2, .int v6), (3, .int v7)] [] g m := by
      intro e
      have h := hr8 _ e
      refine g_iload_n dX2_spiteOfRow_28 2 rfl ?_
      refine g_aload_n dX2_spiteOfRow_29 0 rfl ?_
      refine gf_r zfd_2_0 q1410  (fun _ h9 => h9) dX2_spiteOfRow_30 h (fun r10 h => ?_)
      refine g_bipush (v := (35 : Int32)) dX2_spiteOfRow_33 (by decide) ?_
      refine g_bipush (v := (6 : Int32)) dX2_spiteOfRow_35 (by decide) ?_
      refine g_aload_n dX2_spiteOfRow_37 0 rfl ?_
      refine gf_r zfd_2_26 q1436  (fun _ h9 => h9) dX2_spiteOfRow_38 h (fun r11 h => ?_)
      refine g_iload_n dX2_spiteOfRow_41 3 rfl ?_
      refine g_iald dX2_spiteOfRow_42 h (fun v12 h => ?_)
      refine g_imul dX2_spiteOfRow_43 ?_
      refine g_iadd dX2_spiteOfRow_44 ?_
      refine g_aload_n dX2_spiteOfRow_45 0 rfl ?_
      refine gf_r zfd_2_26 q1436  (fun _ h9 => h9) dX2_spiteOfRow_46 h (fun r13 h => ?_)
      refine g_iload_n dX2_spiteOfRow_49 3 rfl ?_
      refine g_iconst (v := (1 : Int32)) dX2_spiteOfRow_50 (by decide) ?_
      refine g_iadd dX2_spiteOfRow_51 ?_
      refine g_iload_n dX2_spiteOfRow_52 1 rfl ?_
      refine g_irem dX2_spiteOfRow_53 h (fun v14 h => ?_)
      refine g_iald dX2_spiteOfRow_54 h (fun v15 h => ?_)
      refine g_iadd dX2_spiteOfRow_55 ?_
      refine g_iald dX2_spiteOfRow_56 h (fun v16 h => ?_)
      refine g_iadd dX2_spiteOfRow_57 ?_
      refine g_leti h (fun v17 h => ?_)
      refine g_istore_n [(2, .int v17), (0, va_rf a0), (1, .int v2), (3, .int v7)] dX2_spiteOfRow_58 (by decide) (zf_r (zf_i (zf_i (zf_i zf_0)))) rfl ?_
      refine g_iinc (v := (1 : Int32)) [(2, .int v17), (0, va_rf a0), (1, .int v2)] dX2_spiteOfRow_59 3 rfl (by decide) (by decide) (zf_i (zf_r (zf_i (zf_i zf_0)))) rfl h (fun v18 h => ?_)
      refine g_goto 11 dX2_spiteOfRow_62 (by decide) ?_
      refine zG.sub [2, 3, 1, 0] rfl ?_
      have e := Option.some.inj h
      exact K5 _ _ e.symm
    have h := h1
    refine g_icmp_gt 28 dX2_spiteOfRow_18 (by decide) (fun c => ?_) (fun c => ?_)
    · have h := zite_p h c
      refine zG.sub [0, 1, 2, 3] rfl ?_
      have e := Option.some.inj h
      exact K8 e.symm
    · have h := zite_n h c
      refine g_iload_n dX2_spiteOfRow_21 3 rfl ?_
      refine g_iload_n dX2_spiteOfRow_22 1 rfl ?_
      refine g_iconst (v := (1 : Int32)) dX2_spiteOfRow_23 (by decide) ?_
      refine g_isub dX2_spiteOfRow_24 ?_
      refine g_icmp_ge 59 dX2_spiteOfRow_25 (by decide) (fun c => ?_) (fun c => ?_)
      · have h := zite_p h c
        refine g_iinc (v := (1 : Int32)) [(0, va_rf a0), (1, .int v2), (2, .int v6)] dX2_spiteOfRow_59 3 rfl (by decide) (by decide) (zf_r (zf_i (zf_i (zf_i zf_0)))) rfl h (fun v9 h => ?_)
        refine g_goto 11 dX2_spiteOfRow_62 (by decide) ?_
        refine zG.sub [1, 2, 3, 0] rfl ?_
        have e := Option.some.inj h
        have e := hl8 _ e.symm
        exact K5 _ _ e.symm
      · have h := zite_n h c
        refine zG.sub [0, 1, 2, 3] rfl ?_
        have e := Option.some.inj h
        exact K8 e.symm
/-! QuiverKinModel.layBest -/
def b_X2_layBest_133 (g : zGd) (a0 : Option Nat) : Int32 × zMm → Option ((zMm) ⊕ (Int32 × zMm)) := fun (v38, m39) =>
(zgr g m39 2 0 a0).bind fun r40 =>
(zald 101 g m39 r40 (0 : Int32)).bind fun v41 =>
if v41 ≤ v38 then (some (.inl m39))
else ((zgr g m39 2 27 a0).bind fun r42 =>
(zgr g m39 2 26 a0).bind fun r43 =>
(zald 101 g m39 r43 v38).bind fun v44 =>
(zast 101 g m39 r42 v38 v44).bind fun m45 =>
zlt (v38 + (1 : Int32)) fun v46 =>
some (.inr (v46, m45)))
def b_X2_layBest_45 (g : zGd) (a0 : Option Nat) : Int32 × zMm → Option ((zMm) ⊕ (Int32 × zMm)) := fun (v15, m16) =>
(zrc g 2 a0 (f_X2_seatingsInAll g m16 a0)).bind fun v17 =>
if v17 ≤ v15 then (some (.inl m16))
else ((zgr g m16 2 0 a0).bind fun r18 =>
(zald 101 g m16 r18 (0 : Int32)).bind fun v19 =>
if v19 ≤ 0 then (some (.inl m16))
else ((zrc g 2 a0 (f_X2_layRow g m16 a0 v15)).bind fun m20 =>
(zrc g 2 a0 (f_X2_spiteOfRow g m20 a0)).bind fun v21 =>
(zgi g m20 2 30 a0).bind fun v22 =>
((if v21 ≤ v22 then ((zgi g m20 2 30 a0).bind fun v25 =>
some (v25))
else (some (v21)) : Option (Int32))).bind fun v24 =>
(zpi g m20 2 30 a0 v24).bind fun m26 =>
(zgi g m26 2 28 a0).bind fun v27 =>
((if v21 = v27 then ((zgi g m26 2 29 a0).bind fun v30 =>
(zpi g m26 2 29 a0 (v30 + (1 : Int32))).bind fun m31 =>
some (m31))
else (some (m26)) : Option (zMm))).bind fun m29 =>
(zgi g m29 2 28 a0).bind fun v32 =>
if v21 < v32 then ((zpi g m29 2 28 a0 v21).bind fun m33 =>
(zpi g m33 2 29 a0 (1 : Int32)).bind fun m34 =>
(zLoop (b_X2_layBest_133 g a0) zFuel ((0 : Int32), m34)).bind fun m36 =>
zlt (v15 + (1 : Int32)) fun v47 =>
some (.inr (v47, m36)))
else (zlt (v15 + (1 : Int32)) fun v48 =>
some (.inr (v48, m29)))))
def f_X2_layBest (g : zGd) (m : zMm) (a0 : Option Nat) : Option (zMm) :=
(zgr g m 2 0 a0).bind fun r1 =>
(zald 101 g m r1 (0 : Int32)).bind fun v2 =>
((if v2 = 0 then (some ((0 : Int32)))
else (some ((1000000 : Int32))) : Option (Int32))).bind fun v4 =>
(zpi g m 2 28 a0 v4).bind fun m5 =>
(zgr g m5 2 0 a0).bind fun r6 =>
(zald 101 g m5 r6 (0 : Int32)).bind fun v7 =>
((if v7 = 0 then (some ((1 : Int32)))
else (some ((0 : Int32))) : Option (Int32))).bind fun v9 =>
(zpi g m5 2 29 a0 v9).bind fun m10 =>
(zpi g m10 2 30 a0 (0 : Int32)).bind fun m11 =>
(zLoop (b_X2_layBest_45 g a0) zFuel ((0 : Int32), m11)).bind fun m13 =>
some (m13)
theorem hy_X2_layBest : zHy yX2_layBest 0 := ⟨by decide, by decide, by decide +kernel⟩
set_option maxHeartbeats 4000000 in
theorem ok_X2_layBest (l : Launch) (g : zGd) (m : zMm) (a0 : Option Nat) (m0 : zMm) (h : f_X2_layBest g m a0 = some m0) : zCT l yX2_layBest cX2_layBest 4 none 3 68 g m [va_rf a0] none g m0 := by
  refine zCT.of (own := "QuiverKinModel") (mn := "layBest") (by decide +kernel) rfl rfl (zla_r zla_0) (zls_r zls_0) (by decide) (fun X hxl hxg hxf hxt hxr hxn => ?_)
  have Kret : ∀ (y0 : zMm), y0 = m0 → zRe X g y0 none := by
    intro y0 e; cases e; exact ⟨hxf, hxr, hxn⟩
  subst hxl
  show zG X cX2_layBest 4 "QuiverKinModel" "layBest" 3 68 0 [(0, va_rf a0)] [] g m
  unfold f_X2_layBest at h
  refine g_aload_n dX2_layBest_0 0 rfl ?_
  refine g_aload_n dX2_layBest_1 0 rfl ?_
  refine gf_r zfd_2_0 q1410  (fun _ h9 => h9) dX2_layBest_2 h (fun r1 h => ?_)
  refine g_iconst (v := (0 : Int32)) dX2_layBest_5 (by decide) ?_
  refine g_iald dX2_layBest_6 h (fun v2 h => ?_)
  obtain ⟨o3, h1, h2⟩ := zB_e h
  have K3 : ∀ (v4 : Int32), o3 = v4 → zG X cX2_layBest 4 "QuiverKinModel" "layBest" 3 68 17 [(0, va_rf a0)] [.int v4, va_rf a0] g m := by
    intro v4 e
    rw [e] at h2
    have h := h2
    refine gp_i zpd_2_28 q1438 (fun _ h9 => h9) dX2_layBest_17 h (fun m5 h => ?_)
    refine g_aload_n dX2_layBest_20 0 rfl ?_
    refine g_aload_n dX2_layBest_21 0 rfl ?_
    refine gf_r zfd_2_0 q1410  (fun _ h9 => h9) dX2_layBest_22 h (fun r6 h => ?_)
    refine g_iconst (v := (0 : Int32)) dX2_layBest_25 (by decide) ?_
    refine g_iald dX2_layBest_26 h (fun v7 h => ?_)
    obtain ⟨o8, h1, h2⟩ := zB_e h
    have K8 : ∀ (v9 : Int32), o8 = v9 → zG X cX2_layBest 4 "QuiverKinModel" "layBest" 3 68 35 [(0, va_rf a0)] [.int v9, va_rf a0] g m5 := by
      intro v9 e
      rw [e] at h2
      have h := h2
      refine gp_i zpd_2_29 q1439 (fun _ h9 => h9) dX2_layBest_35 h (fun m10 h => ?_)
      refine g_aload_n dX2_layBest_38 0 rfl ?_
      refine g_iconst (v := (0 : Int32)) dX2_layBest_39 (by decide) ?_
      refine gp_i zpd_2_30 q1440 (fun _ h9 => h9) dX2_layBest_40 h (fun m11 h => ?_)
      refine g_iconst (v := (0 : Int32)) dX2_layBest_43 (by decide) ?_
      refine g_istore_n [(1, .int (0 : Int32)), (0, va_rf a0)] dX2_layBest_44 (by decide) (zf_r zf_0) rfl ?_
      obtain ⟨o12, h1, h2⟩ := zB_e h
      have K12 : ∀ (m13 : zMm), o12 = m13 → zG X cX2_layBest 4 "QuiverKinModel" "layBest" 3 68 167 [] [] g m13 := by
        intro m13 e
        rw [e] at h2
        have h := h2
        refine g_vret dX2_layBest_167 hxt ?_
        have e := Option.some.inj h
        exact Kret _ e
      refine zG.sub [1, 0] rfl ?_
      refine zLoop_ok (Φ := (fun (q : Int32 × zMm) => match q with | (v15, m16) => zG X cX2_layBest 4 "QuiverKinModel" "layBest" 3 68 45 [(0, va_rf a0), (1, .int v15)] [] g m16)) o12 ?_ zFuel _ h1
      rintro ⟨v15, m16⟩ x14 h hl14 hr14
      unfold b_X2_layBest_45 at h
      have K14 : ∀ (v15 : Int32) (m16 : zMm), x14 = .inr (v15, m16) → zG X cX2_layBest 4 "QuiverKinModel" "layBest" 3 68 45 [(0, va_rf a0), (1, .int v15)] [] g m16 := by
        intro v15 m16 e
        exact hr14 _ e
      show zG X cX2_layBest 4 "QuiverKinModel" "layBest" 3 68 45 [(0, va_rf a0), (1, .int v15)] [] g m16
      refine g_iload_n dX2_layBest_45 1 rfl ?_
      refine g_aload_n dX2_layBest_46 0 rfl ?_
      refine g_cVRv (rv := fun x : Int32 => Value.int x) [] (fun x0 e0 => ok_X2_seatingsInAll (xl X) g m16 a0 x0 e0) zc2 (by decide) (lw_V q1899 q1901 qs107 q126 q1902) rfl hy_X2_seatingsInAll rfl ⟨by decide, by decide⟩ rfl (zc_i zc_0) (by decide) dX2_layBest_47 h (fun v17 h => ?_)
      refine g_icmp_ge 167 dX2_layBest_50 (by decide) (fun c => ?_) (fun c => ?_)
      · have h := zite_p h c
        refine zG.sub [] rfl ?_
        have e := Option.some.inj h
        have e := hl14 _ e.symm
        exact K12 _ e.symm
      · have h := zite_n h c
        refine g_aload_n dX2_layBest_53 0 rfl ?_
        refine gf_r zfd_2_0 q1410  (fun _ h9 => h9) dX2_layBest_54 h (fun r18 h => ?_)
        refine g_iconst (v := (0 : Int32)) dX2_layBest_57 (by decide) ?_
        refine g_iald dX2_layBest_58 h (fun v19 h => ?_)
        refine g_if_le 167 dX2_layBest_59 (by decide) (fun c => ?_) (fun c => ?_)
        · have h := zite_p h c
          refine zG.sub [] rfl ?_
          have e := Option.some.inj h
          have e := hl14 _ e.symm
          exact K12 _ e.symm
        · have h := zite_n h c
          refine g_aload_n dX2_layBest_62 0 rfl ?_
          refine g_iload_n dX2_layBest_63 1 rfl ?_
          refine g_cVMn [.int v15] (fun m0 e0 => ok_X2_layRow (xl X) g m16 a0 v15 m0 e0) zc2 (by decide) (lw_V q1906 q1908 qs108 q126 q1909) rfl hy_X2_layRow rfl ⟨by decide, by decide⟩ rfl zc_0 (by decide) dX2_layBest_64 h (fun m20 h => ?_)
          refine g_aload_n dX2_layBest_67 0 rfl ?_
          refine g_cVRv (rv := fun x : Int32 => Value.int x) [] (fun x0 e0 => ok_X2_spiteOfRow (xl X) g m20 a0 x0 e0) zc2 (by decide) (lw_V q1910 q1912 qs109 q126 q1913) rfl hy_X2_spiteOfRow rfl ⟨by decide, by decide⟩ rfl zc_0 (by decide) dX2_layBest_68 h (fun v21 h => ?_)
          refine g_istore_n [(2, .int v21), (0, va_rf a0), (1, .int v15)] dX2_layBest_71 (by decide) (zf_r (zf_i zf_0)) rfl ?_
          refine g_aload_n dX2_layBest_72 1 rfl ?_
          refine g_iload_n dX2_layBest_73 0 rfl ?_
          refine g_aload_n dX2_layBest_74 1 rfl ?_
          refine gf_i zfd_2_30 q1440  (fun _ h9 => h9) dX2_layBest_75 h (fun v22 h => ?_)
          obtain ⟨o23, h1, h2⟩ := zB_e h
          have K23 : ∀ (v24 : Int32), o23 = v24 → zG X cX2_layBest 4 "QuiverKinModel" "layBest" 3 68 89 [(0, va_rf a0), (1, .int v15), (2, .int v21)] [.int v24, va_rf a0] g m20 := by
            intro v24 e
            rw [e] at h2
            have h := h2
            refine gp_i zpd_2_30 q1440 (fun _ h9 => h9) dX2_layBest_89 h (fun m26 h => ?_)
            refine g_iload_n dX2_layBest_92 2 rfl ?_
            refine g_aload_n dX2_layBest_93 0 rfl ?_
            refine gf_i zfd_2_28 q1438  (fun _ h9 => h9) dX2_layBest_94 h (fun v27 h => ?_)
            obtain ⟨o28, h1, h2⟩ := zB_e h
            have K28 : ∀ (m29 : zMm), o28 = m29 → zG X cX2_layBest 4 "QuiverKinModel" "layBest" 3 68 110 [(0, va_rf a0), (1, .int v15), (2, .int v21)] [] g m29 := by
              intro m29 e
              rw [e] at h2
              have h := h2
              refine g_iload_n dX2_layBest_110 2 rfl ?_
              refine g_aload_n dX2_layBest_111 0 rfl ?_
              refine gf_i zfd_2_28 q1438  (fun _ h9 => h9) dX2_layBest_112 h (fun v32 h => ?_)
              refine g_icmp_lt 121 dX2_layBest_115 (by decide) (fun c => ?_) (fun c => ?_)
              · have h := zite_p h c
                refine g_aload_n dX2_layBest_121 0 rfl ?_
                refine g_iload_n dX2_layBest_122 2 rfl ?_
                refine gp_i zpd_2_28 q1438 (fun _ h9 => h9) dX2_layBest_123 h (fun m33 h => ?_)
                refine g_aload_n dX2_layBest_126 0 rfl ?_
                refine g_iconst (v := (1 : Int32)) dX2_layBest_127 (by decide) ?_
                refine gp_i zpd_2_29 q1439 (fun _ h9 => h9) dX2_layBest_128 h (fun m34 h => ?_)
                refine g_iconst (v := (0 : Int32)) dX2_layBest_131 (by decide) ?_
                refine g_istore_n [(3, .int (0 : Int32)), (0, va_rf a0), (1, .int v15), (2, .int v21)] dX2_layBest_132 (by decide) (zf_r (zf_i (zf_i zf_0))) rfl ?_
                obtain ⟨o35, h1, h2⟩ := zB_e h
                have K35 : ∀ (m36 : zMm), o35 = m36 → zG X cX2_layBest 4 "QuiverKinModel" "layBest" 3 68 161 [(0, va_rf a0), (1, .int v15)] [] g m36 := by
                  intro m36 e
                  rw [e] at h2
                  have h := h2
                  refine g_iinc (v := (1 : Int32)) [(0, va_rf a0)] dX2_layBest_161 1 rfl (by decide) (by decide) (zf_r (zf_i zf_0)) rfl h (fun v47 h => ?_)
                  refine g_goto 45 dX2_layBest_164 (by decide) ?_
                  refine zG.sub [1, 0] rfl ?_
                  have e := Option.some.inj h
                  exact K14 _ _ e.symm
                refine zG.sub [1, 2, 0] rfl ?_
                refine zLoop_ok (Φ := (fun (q : Int32 × zMm) => match q with | (v38, m39) => zG X cX2_layBest 4 "QuiverKinModel" "layBest" 3 68 133 [(0, va_rf a0), (1, .int v15), (3, .int v38)] [] g m39)) o35 ?_ zFuel _ h1
                rintro ⟨v38, m39⟩ x37 h hl37 hr37
                unfold b_X2_layBest_133 at h
                have K37 : ∀ (v38 : Int32) (m39 : zMm), x37 = .inr (v38, m39) → zG X cX2_layBest 4 "QuiverKinModel" "layBest" 3 68 133 [(0, va_rf a0), (1, .int v15), (3, .int v38)] [] g m39 := by
                  intro v38 m39 e
                  exact hr37 _ e
                show zG X cX2_layBest 4 "QuiverKinModel" "layBest" 3 68 133 [(0, va_rf a0), (1, .int v15), (3, .int v38)] [] g m39
                refine g_iload_n dX2_layBest_133 2 rfl ?_
                refine g_aload_n dX2_layBest_134 0 rfl ?_
                refine gf_r zfd_2_0 q1410  (fun _ h9 => h9) dX2_layBest_135 h (fun r40 h => ?_)
                refine g_iconst (v := (0 : Int32)) dX2_layBest_138 (by decide) ?_
                refine g_iald dX2_layBest_139 h (fun v41 h => ?_)
                refine g_icmp_ge 161 dX2_layBest_140 (by decide) (fun c => ?_) (fun c => ?_)
                · have h := zite_p h c
                  refine zG.sub [0, 1] rfl ?_
                  have e := Option.some.inj h
                  have e := hl37 _ e.symm
                  exact K35 _ e.symm
                · have h := zite_n h c
                  refine g_aload_n dX2_layBest_143 0 rfl ?_
                  refine gf_r zfd_2_27 q1437  (fun _ h9 => h9) dX2_layBest_144 h (fun r42 h => ?_)
                  refine g_iload_n dX2_layBest_147 2 rfl ?_
                  refine g_aload_n dX2_layBest_148 0 rfl ?_
                  refine gf_r zfd_2_26 q1436  (fun _ h9 => h9) dX2_layBest_149 h (fun r43 h => ?_)
                  refine g_iload_n dX2_layBest_152 2 rfl ?_
                  refine g_iald dX2_layBest_153 h (fun v44 h => ?_)
                  refine g_iast dX2_layBest_154 h (fun m45 h => ?_)
                  refine g_iinc (v := (1 : Int32)) [(0, va_rf a0), (1, .int v15)] dX2_layBest_155 2 rfl (by decide) (by decide) (zf_r (zf_i (zf_i zf_0))) rfl h (fun v46 h => ?_)
                  refine g_goto 133 dX2_layBest_158 (by decide) ?_
                  refine zG.sub [1, 2, 0] rfl ?_
                  have e := Option.some.inj h
                  exact K37 _ _ e.symm
              · have h := zite_n h c
                refine g_goto 161 dX2_layBest_118 (by decide) ?_
                refine g_iinc (v := (1 : Int32)) [(0, va_rf a0), (2, .int v21)] dX2_layBest_161 1 rfl (by decide) (by decide) (zf_r (zf_i (zf_i zf_0))) rfl h (fun v48 h => ?_)
                refine g_goto 45 dX2_layBest_164 (by decide) ?_
                refine zG.sub [1, 0] rfl ?_
                have e := Option.some.inj h
                exact K14 _ _ e.symm
            have h := h1
            refine g_icmp_ne 110 dX2_layBest_97 (by decide) (fun c => ?_) (fun c => ?_)
            · have h := zite_n h c
              refine zG.sub [0, 1, 2] rfl ?_
              have e := Option.some.inj h
              exact K28 _ e.symm
            · have h := zite_p h c
              refine g_aload_n dX2_layBest_100 0 rfl ?_
              refine g_dup dX2_layBest_101 (zcat_r _) ?_
              refine gf_i zfd_2_29 q1439  (fun _ h9 => h9) dX2_layBest_102 h (fun v30 h => ?_)
              refine g_iconst (v := (1 : Int32)) dX2_layBest_105 (by decide) ?_
              refine g_iadd dX2_layBest_106 ?_
              refine gp_i zpd_2_29 q1439 (fun _ h9 => h9) dX2_layBest_107 h (fun m31 h => ?_)
              refine zG.sub [0, 1, 2] rfl ?_
              have e := Option.some.inj h
              exact K28 _ e.symm
          have h := h1
          refine g_icmp_le 85 dX2_layBest_78 (by decide) (fun c => ?_) (fun c => ?_)
          · have h := zite_p h c
            refine g_aload_n dX2_layBest_85 1 rfl ?_
            refine gf_i zfd_2_30 q1440  (fun _ h9 => h9) dX2_layBest_86 h (fun v25 h => ?_)
            refine zG.sub [1, 2, 0] rfl ?_
            have e := Option.some.inj h
            exact K23 _ e.symm
          · have h := zite_n h c
            refine g_iload_n dX2_layBest_81 0 rfl ?_
            refine g_goto 89 dX2_layBest_82 (by decide) ?_
            refine zG.sub [1, 2, 0] rfl ?_
            have e := Option.some.inj h
            exact K23 _ e.symm
    have h := h1
    refine g_if_ne 34 dX2_layBest_27 (by decide) (fun c => ?_) (fun c => ?_)
    · have h := zite_n h c
      refine g_iconst (v := (0 : Int32)) dX2_layBest_34 (by decide) ?_
      refine zG.sub [0] rfl ?_
      have e := Option.some.inj h
      exact K8 _ e.symm
    · have h := zite_p h c
      refine g_iconst (v := (1 : Int32)) dX2_layBest_30 (by decide) ?_
      refine g_goto 35 dX2_layBest_31 (by decide) ?_
      refine zG.sub [0] rfl ?_
      have e := Option.some.inj h
      exact K8 _ e.symm
  have h := h1
  refine g_if_ne 14 dX2_layBest_7 (by decide) (fun c => ?_) (fun c => ?_)
  · have h := zite_n h c
    refine g_ldcw (v := (1000000 : Int32)) q1898 dX2_layBest_14 ?_
    refine zG.sub [0] rfl ?_
    have e := Option.some.inj h
    exact K3 _ e.symm
  · have h := zite_p h c
    refine g_iconst (v := (0 : Int32)) dX2_layBest_10 (by decide) ?_
    refine g_goto 17 dX2_layBest_11 (by decide) ?_
    refine zG.sub [0] rfl ?_
    have e := Option.some.inj h
    exact K3 _ e.symm
/-! QuiverKinModel.round -/
def f_X2_round (g : zGd) (m : zMm) (a0 : Option Nat) (a1 : Int32) : Option (Int32 × zMm) :=
(zrc g 2 a0 (f_X2_layBest g m a0)).bind fun m1 =>
if a1 = 0 then ((zgi g m1 2 30 a0).bind fun v2 =>
some ((v2, m1)))
else ((zgi g m1 2 28 a0).bind fun v3 =>
some ((v3, m1)))
theorem hy_X2_round : zHy yX2_round 1 := ⟨by decide, by decide, by decide +kernel⟩
set_option maxHeartbeats 4000000 in
theorem ok_X2_round (l : Launch) (g : zGd) (m : zMm) (a0 : Option Nat) (a1 : Int32) (z0 : Int32) (m0 : zMm) (h : f_X2_round g m a0 a1 = some (z0, m0)) : zCT l yX2_round cX2_round 2 (some .int) 4 91 g m [va_rf a0, .int a1] (some (.int z0)) g m0 := by
  refine zCT.of (own := "QuiverKinModel") (mn := "round") (by decide +kernel) rfl rfl (zla_r (zla_i zla_0)) (zls_r (zls_i zls_0)) (by decide) (fun X hxl hxg hxf hxt hxr hxn => ?_)
  have Kret : ∀ (y0 : Int32) (y1 : zMm), (y0, y1) = (z0, m0) → zRe X g y1 (some (.int y0)) := by
    intro y0 y1 e; cases e; exact ⟨hxf, hxr, hxn⟩
  subst hxl
  show zG X cX2_round 2 "QuiverKinModel" "round" 4 91 0 [(0, va_rf a0), (1, .int a1)] [] g m
  unfold f_X2_round at h
  refine g_aload_n dX2_round_0 0 rfl ?_
  refine g_cVMn [] (fun m0 e0 => ok_X2_layBest (xl X) g m a0 m0 e0) zc2 (by decide) (lw_V q1894 q1896 qs106 q126 q1897) rfl hy_X2_layBest rfl ⟨by decide, by decide⟩ rfl zc_0 (by decide) dX2_round_1 h (fun m1 h => ?_)
  refine g_iload_n dX2_round_4 1 rfl ?_
  refine g_if_eq 15 dX2_round_5 (by decide) (fun c => ?_) (fun c => ?_)
  · have h := zite_p h c
    refine g_aload_n dX2_round_15 0 rfl ?_
    refine gf_i zfd_2_30 q1440  (fun _ h9 => h9) dX2_round_16 h (fun v2 h => ?_)
    refine g_iret dX2_round_19 hxt ?_
    have e := Option.some.inj h
    exact Kret _ _ e
  · have h := zite_n h c
    refine g_aload_n dX2_round_8 0 rfl ?_
    refine gf_i zfd_2_28 q1438  (fun _ h9 => h9) dX2_round_9 h (fun v3 h => ?_)
    refine g_goto 19 dX2_round_12 (by decide) ?_
    refine g_iret dX2_round_19 hxt ?_
    have e := Option.some.inj h
    exact Kret _ _ e
/-! QuiverKinModel.seating -/
def f_X2_seating (g : zGd) (m : zMm) (a0 : Option Nat) (a1 : Int32) : Option (Int32 × zMm) :=
(zrc g 2 a0 (f_X2_isKin g m a0 a1)).bind fun v1 =>
if v1 = 0 then (some (((-1 : Int32), m)))
else ((zrc g 2 a0 (f_X2_layBest g m a0)).bind fun m2 =>
(zgr g m2 2 27 a0).bind fun r3 =>
(zald 101 g m2 r3 a1).bind fun v4 =>
some ((v4, m2)))
theorem hy_X2_seating : zHy yX2_seating 1 := ⟨by decide, by decide, by decide +kernel⟩
set_option maxHeartbeats 4000000 in
theorem ok_X2_seating (l : Launch) (g : zGd) (m : zMm) (a0 : Option Nat) (a1 : Int32) (z0 : Int32) (m0 : zMm) (h : f_X2_seating g m a0 a1 = some (z0, m0)) : zCT l yX2_seating cX2_seating 2 (some .int) 4 91 g m [va_rf a0, .int a1] (some (.int z0)) g m0 := by
  refine zCT.of (own := "QuiverKinModel") (mn := "seating") (by decide +kernel) rfl rfl (zla_r (zla_i zla_0)) (zls_r (zls_i zls_0)) (by decide) (fun X hxl hxg hxf hxt hxr hxn => ?_)
  have Kret : ∀ (y0 : Int32) (y1 : zMm), (y0, y1) = (z0, m0) → zRe X g y1 (some (.int y0)) := by
    intro y0 y1 e; cases e; exact ⟨hxf, hxr, hxn⟩
  subst hxl
  show zG X cX2_seating 2 "QuiverKinModel" "seating" 4 91 0 [(0, va_rf a0), (1, .int a1)] [] g m
  unfold f_X2_seating at h
  refine g_aload_n dX2_seating_0 0 rfl ?_
  refine g_iload_n dX2_seating_1 1 rfl ?_
  refine g_cVRv (rv := fun x : Int32 => Value.int x) [.int a1] (fun x0 e0 => ok_X2_isKin (xl X) g m a0 a1 x0 e0) zc2 (by decide) (lw_V q1545 q1547 qs55 q126 q1548) rfl hy_X2_isKin rfl ⟨by decide, by decide⟩ rfl zc_0 (by decide) dX2_seating_2 h (fun v1 h => ?_)
  refine g_if_ne 10 dX2_seating_5 (by decide) (fun c => ?_) (fun c => ?_)
  · have h := zite_n h c
    refine g_aload_n dX2_seating_10 0 rfl ?_
    refine g_cVMn [] (fun m0 e0 => ok_X2_layBest (xl X) g m a0 m0 e0) zc2 (by decide) (lw_V q1894 q1896 qs106 q126 q1897) rfl hy_X2_layBest rfl ⟨by decide, by decide⟩ rfl zc_0 (by decide) dX2_seating_11 h (fun m2 h => ?_)
    refine g_aload_n dX2_seating_14 0 rfl ?_
    refine gf_r zfd_2_27 q1437  (fun _ h9 => h9) dX2_seating_15 h (fun r3 h => ?_)
    refine g_iload_n dX2_seating_18 1 rfl ?_
    refine g_iald dX2_seating_19 h (fun v4 h => ?_)
    refine g_iret dX2_seating_20 hxt ?_
    have e := Option.some.inj h
    exact Kret _ _ e
  · have h := zite_p h c
    refine g_iconst (v := (-1 : Int32)) dX2_seating_8 (by decide) ?_
    refine g_iret dX2_seating_9 hxt ?_
    have e := Option.some.inj h
    exact Kret _ _ e
/-! QuiverKinModel.seatings -/
def f_X2_seatings (g : zGd) (m : zMm) (a0 : Option Nat) : Option (Int32 × zMm) :=
(zrc g 2 a0 (f_X2_layBest g m a0)).bind fun m1 =>
(zgi g m1 2 29 a0).bind fun v2 =>
some ((v2, m1))
theorem hy_X2_seatings : zHy yX2_seatings 0 := ⟨by decide, by decide, by decide +kernel⟩
set_option maxHeartbeats 4000000 in
theorem ok_X2_seatings (l : Launch) (g : zGd) (m : zMm) (a0 : Option Nat) (z0 : Int32) (m0 : zMm) (h : f_X2_seatings g m a0 = some (z0, m0)) : zCT l yX2_seatings cX2_seatings 1 (some .int) 4 91 g m [va_rf a0] (some (.int z0)) g m0 := by
  refine zCT.of (own := "QuiverKinModel") (mn := "seatings") (by decide +kernel) rfl rfl (zla_r zla_0) (zls_r zls_0) (by decide) (fun X hxl hxg hxf hxt hxr hxn => ?_)
  have Kret : ∀ (y0 : Int32) (y1 : zMm), (y0, y1) = (z0, m0) → zRe X g y1 (some (.int y0)) := by
    intro y0 y1 e; cases e; exact ⟨hxf, hxr, hxn⟩
  subst hxl
  show zG X cX2_seatings 1 "QuiverKinModel" "seatings" 4 91 0 [(0, va_rf a0)] [] g m
  unfold f_X2_seatings at h
  refine g_aload_n dX2_seatings_0 0 rfl ?_
  refine g_cVMn [] (fun m0 e0 => ok_X2_layBest (xl X) g m a0 m0 e0) zc2 (by decide) (lw_V q1894 q1896 qs106 q126 q1897) rfl hy_X2_layBest rfl ⟨by decide, by decide⟩ rfl zc_0 (by decide) dX2_seatings_1 h (fun m1 h => ?_)
  refine g_aload_n dX2_seatings_4 0 rfl ?_
  refine gf_i zfd_2_29 q1439  (fun _ h9 => h9) dX2_seatings_5 h (fun v2 h => ?_)
  refine g_iret dX2_seatings_8 hxt ?_
  have e := Option.some.inj h
  exact Kret _ _ e
/-! QuiverKinModel.spiteOfSeats -/
def b_X2_spiteOfSeats_2 (g : zGd) (a0 : Option Nat) : Int32 × zMm → Option ((zMm) ⊕ (Int32 × zMm)) := fun (v4, m5) =>
(zgr g m5 2 0 a0).bind fun r6 =>
(zald 101 g m5 r6 (0 : Int32)).bind fun v7 =>
if v7 ≤ v4 then (some (.inl m5))
else ((zgr g m5 2 26 a0).bind fun r8 =>
(zgr g m5 2 0 a0).bind fun r9 =>
(zald 101 g m5 r9 ((17 : Int32) + v4)).bind fun v10 =>
(zast 101 g m5 r8 v10 v4).bind fun m11 =>
zlt (v4 + (1 : Int32)) fun v12 =>
some (.inr (v12, m11)))
def f_X2_spiteOfSeats (g : zGd) (m : zMm) (a0 : Option Nat) : Option (Int32 × zMm) :=
(zLoop (b_X2_spiteOfSeats_2 g a0) zFuel ((0 : Int32), m)).bind fun m2 =>
(zrc g 2 a0 (f_X2_spiteOfRow g m2 a0)).bind fun v13 =>
some ((v13, m2))
theorem hy_X2_spiteOfSeats : zHy yX2_spiteOfSeats 0 := ⟨by decide, by decide, by decide +kernel⟩
set_option maxHeartbeats 4000000 in
theorem ok_X2_spiteOfSeats (l : Launch) (g : zGd) (m : zMm) (a0 : Option Nat) (z0 : Int32) (m0 : zMm) (h : f_X2_spiteOfSeats g m a0 = some (z0, m0)) : zCT l yX2_spiteOfSeats cX2_spiteOfSeats 2 (some .int) 2 43 g m [va_rf a0] (some (.int z0)) g m0 := by
  refine zCT.of (own := "QuiverKinModel") (mn := "spiteOfSeats") (by decide +kernel) rfl rfl (zla_r zla_0) (zls_r zls_0) (by decide) (fun X hxl hxg hxf hxt hxr hxn => ?_)
  have Kret : ∀ (y0 : Int32) (y1 : zMm), (y0, y1) = (z0, m0) → zRe X g y1 (some (.int y0)) := by
    intro y0 y1 e; cases e; exact ⟨hxf, hxr, hxn⟩
  subst hxl
  show zG X cX2_spiteOfSeats 2 "QuiverKinModel" "spiteOfSeats" 2 43 0 [(0, va_rf a0)] [] g m
  unfold f_X2_spiteOfSeats at h
  refine g_iconst (v := (0 : Int32)) dX2_spiteOfSeats_0 (by decide) ?_
  refine g_istore_n [(1, .int (0 : Int32)), (0, va_rf a0)] dX2_spiteOfSeats_1 (by decide) (zf_r zf_0) rfl ?_
  obtain ⟨o1, h1, h2⟩ := zB_e h
  have K1 : ∀ (m2 : zMm), o1 = m2 → zG X cX2_spiteOfSeats 2 "QuiverKinModel" "spiteOfSeats" 2 43 33 [(0, va_rf a0)] [] g m2 := by
    intro m2 e
    rw [e] at h2
    have h := h2
    refine g_aload_n dX2_spiteOfSeats_33 0 rfl ?_
    refine g_cVRv (rv := fun x : Int32 => Value.int x) [] (fun x0 e0 => ok_X2_spiteOfRow (xl X) g m2 a0 x0 e0) zc2 (by decide) (lw_V q1910 q1912 qs109 q126 q1913) rfl hy_X2_spiteOfRow rfl ⟨by decide, by decide⟩ rfl zc_0 (by decide) dX2_spiteOfSeats_34 h (fun v13 h => ?_)
    refine g_iret dX2_spiteOfSeats_37 hxt ?_
    have e := Option.some.inj h
    exact Kret _ _ e
  refine zG.sub [1, 0] rfl ?_
  refine zLoop_ok (Φ := (fun (q : Int32 × zMm) => match q with | (v4, m5) => zG X cX2_spiteOfSeats 2 "QuiverKinModel" "spiteOfSeats" 2 43 2 [(0, va_rf a0), (1, .int v4)] [] g m5)) o1 ?_ zFuel _ h1
  rintro ⟨v4, m5⟩ x3 h hl3 hr3
  unfold b_X2_spiteOfSeats_2 at h
  have K3 : ∀ (v4 : Int32) (m5 : zMm), x3 = .inr (v4, m5) → zG X cX2_spiteOfSeats 2 "QuiverKinModel" "spiteOfSeats" 2 43 2 [(0, va_rf a0), (1, .int v4)] [] g m5 := by
    intro v4 m5 e
    exact hr3 _ e
  show zG X cX2_spiteOfSeats 2 "QuiverKinModel" "spiteOfSeats" 2 43 2 [(0, va_rf a0), (1, .int v4)] [] g m5
  refine g_iload_n dX2_spiteOfSeats_2 1 rfl ?_
  refine g_aload_n dX2_spiteOfSeats_3 0 rfl ?_
  refine gf_r zfd_2_0 q1410  (fun _ h9 => h9) dX2_spiteOfSeats_4 h (fun r6 h => ?_)
  refine g_iconst (v := (0 : Int32)) dX2_spiteOfSeats_7 (by decide) ?_
  refine g_iald dX2_spiteOfSeats_8 h (fun v7 h => ?_)
  refine g_icmp_ge 33 dX2_spiteOfSeats_9 (by decide) (fun c => ?_) (fun c => ?_)
  · have h := zite_p h c
    refine zG.sub [0] rfl ?_
    have e := Option.some.inj h
    have e := hl3 _ e.symm
    exact K1 _ e.symm
  · have h := zite_n h c
    refine g_aload_n dX2_spiteOfSeats_12 0 rfl ?_
    refine gf_r zfd_2_26 q1436  (fun _ h9 => h9) dX2_spiteOfSeats_13 h (fun r8 h => ?_)
    refine g_aload_n dX2_spiteOfSeats_16 0 rfl ?_
    refine gf_r zfd_2_0 q1410  (fun _ h9 => h9) dX2_spiteOfSeats_17 h (fun r9 h => ?_)
    refine g_bipush (v := (17 : Int32)) dX2_spiteOfSeats_20 (by decide) ?_
    refine g_iload_n dX2_spiteOfSeats_22 1 rfl ?_
    refine g_iadd dX2_spiteOfSeats_23 ?_
    refine g_iald dX2_spiteOfSeats_24 h (fun v10 h => ?_)
    refine g_iload_n dX2_spiteOfSeats_25 1 rfl ?_
    refine g_iast dX2_spiteOfSeats_26 h (fun m11 h => ?_)
    refine g_iinc (v := (1 : Int32)) [(0, va_rf a0)] dX2_spiteOfSeats_27 1 rfl (by decide) (by decide) (zf_r (zf_i zf_0)) rfl h (fun v12 h => ?_)
    refine g_goto 2 dX2_spiteOfSeats_30 (by decide) ?_
    refine zG.sub [1, 0] rfl ?_
    have e := Option.some.inj h
    exact K3 _ _ e.symm
/-! QuiverKinModel.spiteNow -/
def f_X2_spiteNow (g : zGd) (m : zMm) (a0 : Option Nat) : Option (Int32 × zMm) :=
(zrc g 2 a0 (f_X2_spiteOfSeats g m a0)).bind fun (v1, m2) =>
some ((v1, m2))
theorem hy_X2_spiteNow : zHy yX2_spiteNow 0 := ⟨by decide, by decide, by decide +kernel⟩
set_option maxHeartbeats 4000000 in
theorem ok_X2_spiteNow (l : Launch) (g : zGd) (m : zMm) (a0 : Option Nat) (z0 : Int32) (m0 : zMm) (h : f_X2_spiteNow g m a0 = some (z0, m0)) : zCT l yX2_spiteNow cX2_spiteNow 1 (some .int) 3 64 g m [va_rf a0] (some (.int z0)) g m0 := by
  refine zCT.of (own := "QuiverKinModel") (mn := "spiteNow") (by decide +kernel) rfl rfl (zla_r zla_0) (zls_r zls_0) (by decide) (fun X hxl hxg hxf hxt hxr hxn => ?_)
  have Kret : ∀ (y0 : Int32) (y1 : zMm), (y0, y1) = (z0, m0) → zRe X g y1 (some (.int y0)) := by
    intro y0 y1 e; cases e; exact ⟨hxf, hxr, hxn⟩
  subst hxl
  show zG X cX2_spiteNow 1 "QuiverKinModel" "spiteNow" 3 64 0 [(0, va_rf a0)] [] g m
  unfold f_X2_spiteNow at h
  refine g_aload_n dX2_spiteNow_0 0 rfl ?_
  refine g_cVMv (rv := fun x : Int32 => Value.int x) [] (fun x0 m0 e0 => ok_X2_spiteOfSeats (xl X) g m a0 x0 m0 e0) zc2 (by decide) (lw_V q1926 q1928 qs110 q126 q1929) rfl hy_X2_spiteOfSeats rfl ⟨by decide, by decide⟩ rfl zc_0 (by decide) dX2_spiteNow_1 h (fun v1 m2 h => ?_)
  refine g_iret dX2_spiteNow_4 hxt ?_
  have e := Option.some.inj h
  exact Kret _ _ e
/-! QuiverKinModel.mend -/
def b_X2_mend_38 (g : zGd) (a0 : Option Nat) (v11 : Int32) : Int32 × Int32 × Int32 × zMm → Option ((Int32 × Int32 × zMm) ⊕ (Int32 × Int32 × Int32 × zMm)) := fun (v21, v22, v23, m24) =>
(zgr g m24 2 0 a0).bind fun r25 =>
(zald 101 g m24 r25 (0 : Int32)).bind fun v26 =>
if v26 ≤ v23 then (some (.inl ((v21, v22, m24))))
else ((zrc g 2 a0 (f_X2_swapNow g m24 a0 v11 v23)).bind fun m27 =>
(zrc g 2 a0 (f_X2_spiteOfSeats g m27 a0)).bind fun (v28, m29) =>
(zrc g 2 a0 (f_X2_swapNow g m29 a0 v11 v23)).bind fun m30 =>
if v28 < v21 then (zlt (((6 : Int32) * v11) + v23) fun v31 =>
zlt (v23 + (1 : Int32)) fun v32 =>
some (.inr (v28, v31, v32, m30)))
else (zlt (v23 + (1 : Int32)) fun v33 =>
some (.inr (v21, v22, v33, m30))))
def b_X2_mend_21 (g : zGd) (a0 : Option Nat) : Int32 × Int32 × Int32 × zMm → Option ((Int32 × Int32 × zMm) ⊕ (Int32 × Int32 × Int32 × zMm)) := fun (v9, v10, v11, m12) =>
(zgr g m12 2 0 a0).bind fun r13 =>
(zald 101 g m12 r13 (0 : Int32)).bind fun v14 =>
if v14 ≤ v11 then (some (.inl ((v9, v10, m12))))
else (zlt (v11 + (1 : Int32)) fun v15 =>
(zLoop (b_X2_mend_38 g a0 v11) zFuel (v9, v10, v15, m12)).bind fun (v17, v18, m19) =>
zlt (v11 + (1 : Int32)) fun v34 =>
some (.inr (v17, v18, v34, m19)))
def f_X2_mend (g : zGd) (m : zMm) (a0 : Option Nat) (a1 : Int32) : Option (Int32 × zMm) :=
(f_X2_isIn a1 (0 : Int32) (2 : Int32)).bind fun v1 =>
if v1 = 0 then (some (((-1 : Int32), m)))
else ((zrc g 2 a0 (f_X2_spiteOfSeats g m a0)).bind fun (v2, m3) =>
(zLoop (b_X2_mend_21 g a0) zFuel (v2, (-1 : Int32), (0 : Int32), m3)).bind fun (v5, v6, m7) =>
if v6 = (-1 : Int32) then (some (((-1 : Int32), m7)))
else (if a1 = 0 then (some (((v6 / (6 : Int32)), m7)))
else (if a1 = (1 : Int32) then (some (((zrem v6 (6 : Int32)), m7)))
else (some ((v5, m7))))))
theorem hy_X2_mend : zHy yX2_mend 1 := ⟨by decide, by decide, by decide +kernel⟩
set_option maxHeartbeats 4000000 in
theorem ok_X2_mend (l : Launch) (g : zGd) (m : zMm) (a0 : Option Nat) (a1 : Int32) (z0 : Int32) (m0 : zMm) (h : f_X2_mend g m a0 a1 = some (z0, m0)) : zCT l yX2_mend cX2_mend 7 (some .int) 3 64 g m [va_rf a0, .int a1] (some (.int z0)) g m0 := by
  refine zCT.of (own := "QuiverKinModel") (mn := "mend") (by decide +kernel) rfl rfl (zla_r (zla_i zla_0)) (zls_r (zls_i zls_0)) (by decide) (fun X hxl hxg hxf hxt hxr hxn => ?_)
  have Kret : ∀ (y0 : Int32) (y1 : zMm), (y0, y1) = (z0, m0) → zRe X g y1 (some (.int y0)) := by
    intro y0 y1 e; cases e; exact ⟨hxf, hxr, hxn⟩
  subst hxl
  show zG X cX2_mend 7 "QuiverKinModel" "mend" 3 64 0 [(0, va_rf a0), (1, .int a1)] [] g m
  unfold f_X2_mend at h
  refine g_iload_n dX2_mend_0 1 rfl ?_
  refine g_iconst (v := (0 : Int32)) dX2_mend_1 (by decide) ?_
  refine g_iconst (v := (2 : Int32)) dX2_mend_2 (by decide) ?_
  refine g_cSRv (rv := fun x : Int32 => Value.int x) [.int a1, .int (0 : Int32), .int (2 : Int32)] (fun x0 e0 => ok_X2_isIn (xl X) g m a1 (0 : Int32) (2 : Int32) x0 e0) (lw_S q1534 q1535 q126 q1536) hy_X2_isIn rfl ⟨by decide, by decide⟩ rfl zc_0 (by decide) dX2_mend_3 h (fun v1 h => ?_)
  refine g_if_ne 11 dX2_mend_6 (by decide) (fun c => ?_) (fun c => ?_)
  · have h := zite_n h c
    refine g_aload_n dX2_mend_11 0 rfl ?_
    refine g_cVMv (rv := fun x : Int32 => Value.int x) [] (fun x0 m0 e0 => ok_X2_spiteOfSeats (xl X) g m a0 x0 m0 e0) zc2 (by decide) (lw_V q1926 q1928 qs110 q126 q1929) rfl hy_X2_spiteOfSeats rfl ⟨by decide, by decide⟩ rfl zc_0 (by decide) dX2_mend_12 h (fun v2 m3 h => ?_)
    refine g_istore_n [(2, .int v2), (0, va_rf a0), (1, .int a1)] dX2_mend_15 (by decide) (zf_r (zf_i zf_0)) rfl ?_
    refine g_iconst (v := (-1 : Int32)) dX2_mend_16 (by decide) ?_
    refine g_istore_n [(3, .int (-1 : Int32)), (2, .int v2), (0, va_rf a0), (1, .int a1)] dX2_mend_17 (by decide) (zf_i (zf_r (zf_i zf_0))) rfl ?_
    refine g_iconst (v := (0 : Int32)) dX2_mend_18 (by decide) ?_
    refine g_istore [(4, .int (0 : Int32)), (3, .int (-1 : Int32)), (2, .int v2), (0, va_rf a0), (1, .int a1)] dX2_mend_19 (by decide) (zf_i (zf_i (zf_r (zf_i zf_0)))) rfl ?_
    obtain ⟨o4, h1, h2⟩ := zB_e h
    have K4 : ∀ (v5 : Int32) (v6 : Int32) (m7 : zMm), o4 = (v5, v6, m7) → zG X cX2_mend 7 "QuiverKinModel" "mend" 3 64 104 [(1, .int a1), (2, .int v5), (3, .int v6)] [] g m7 := by
      intro v5 v6 m7 e
      rw [e] at h2
      have h := h2
      refine g_iload_n dX2_mend_104 2 rfl ?_
      refine g_iconst (v := (-1 : Int32)) dX2_mend_105 (by decide) ?_
      refine g_icmp_ne 113 dX2_mend_106 (by decide) (fun c => ?_) (fun c => ?_)
      · have h := zite_n h c
        refine g_iload_n dX2_mend_113 0 rfl ?_
        refine g_if_ne 124 dX2_mend_114 (by decide) (fun c => ?_) (fun c => ?_)
        · have h := zite_n h c
          refine g_iload_n dX2_mend_124 0 rfl ?_
          refine g_iconst (v := (1 : Int32)) dX2_mend_125 (by decide) ?_
          refine g_icmp_ne 136 dX2_mend_126 (by decide) (fun c => ?_) (fun c => ?_)
          · have h := zite_n h c
            refine g_iload_n dX2_mend_136 1 rfl ?_
            refine g_iret dX2_mend_137 hxt ?_
            have e := Option.some.inj h
            exact Kret _ _ e
          · have h := zite_p h c
            refine g_iload_n dX2_mend_129 2 rfl ?_
            refine g_bipush (v := (6 : Int32)) dX2_mend_130 (by decide) ?_
            refine g_iremC dX2_mend_132 (by decide) ?_
            refine g_goto 137 dX2_mend_133 (by decide) ?_
            refine g_iret dX2_mend_137 hxt ?_
            have e := Option.some.inj h
            exact Kret _ _ e
        · have h := zite_p h c
          refine g_iload_n dX2_mend_117 2 rfl ?_
          refine g_bipush (v := (6 : Int32)) dX2_mend_118 (by decide) ?_
          refine g_idivC dX2_mend_120 (by decide) ?_
          refine g_goto 137 dX2_mend_121 (by decide) ?_
          refine g_iret dX2_mend_137 hxt ?_
          have e := Option.some.inj h
          exact Kret _ _ e
      · have h := zite_p h c
        refine g_iconst (v := (-1 : Int32)) dX2_mend_109 (by decide) ?_
        refine g_goto 137 dX2_mend_110 (by decide) ?_
        refine g_iret dX2_mend_137 hxt ?_
        have e := Option.some.inj h
        exact Kret _ _ e
    refine zG.sub [3, 4, 2, 1, 0] rfl ?_
    refine zLoop_ok (Φ := (fun (q : Int32 × Int32 × Int32 × zMm) => match q with | (v9, v10, v11, m12) => zG X cX2_mend 7 "QuiverKinModel" "mend" 3 64 21 [(0, va_rf a0), (1, .int a1), (2, .int v9), (3, .int v10), (4, .int v11)] [] g m12)) o4 ?_ zFuel _ h1
    rintro ⟨v9, v10, v11, m12⟩ x8 h hl8 hr8
    unfold b_X2_mend_21 at h
    have K8 : ∀ (v9 : Int32) (v10 : Int32) (v11 : Int32) (m12 : zMm), x8 = .inr (v9, v10, v11, m12) → zG X cX2_mend 7 "QuiverKinModel" "mend" 3 64 21 [(0, va_rf a0), (1, .int a1), (2, .int v9), (3, .int v10), (4, .int v11)] [] g m12 := by
      intro v9 v10 v11 m12 e
      exact hr8 _ e
    show zG X cX2_mend 7 "QuiverKinModel" "mend" 3 64 21 [(0, va_rf a0), (1, .int a1), (2, .int v9), (3, .int v10), (4, .int v11)] [] g m12
    refine g_iload dX2_mend_21 4 rfl ?_
    refine g_aload_n dX2_mend_23 0 rfl ?_
    refine gf_r zfd_2_0 q1410  (fun _ h9 => h9) dX2_mend_24 h (fun r13 h => ?_)
    refine g_iconst (v := (0 : Int32)) dX2_mend_27 (by decide) ?_
    refine g_iald dX2_mend_28 h (fun v14 h => ?_)
    refine g_icmp_ge 104 dX2_mend_29 (by decide) (fun c => ?_) (fun c => ?_)
    · have h := zite_p h c
      refine zG.sub [1, 2, 3] rfl ?_
      have e := Option.some.inj h
      have e := hl8 _ e.symm
      exact K4 _ _ _ e.symm
    · have h := zite_n h c
      refine g_iload dX2_mend_32 4 rfl ?_
      refine g_iconst (v := (1 : Int32)) dX2_mend_34 (by decide) ?_
      refine g_iadd dX2_mend_35 ?_
      refine g_leti h (fun v15 h => ?_)
      refine g_istore [(5, .int v15), (0, va_rf a0), (1, .int a1), (2, .int v9), (3, .int v10), (4, .int v11)] dX2_mend_36 (by decide) (zf_r (zf_i (zf_i (zf_i (zf_i zf_0))))) rfl ?_
      obtain ⟨o16, h1, h2⟩ := zB_e h
      have K16 : ∀ (v17 : Int32) (v18 : Int32) (m19 : zMm), o16 = (v17, v18, m19) → zG X cX2_mend 7 "QuiverKinModel" "mend" 3 64 98 [(0, va_rf a0), (1, .int a1), (2, .int v17), (3, .int v18), (4, .int v11)] [] g m19 := by
        intro v17 v18 m19 e
        rw [e] at h2
        have h := h2
        refine g_iinc (v := (1 : Int32)) [(0, va_rf a0), (1, .int a1), (2, .int v17), (3, .int v18)] dX2_mend_98 4 rfl (by decide) (by decide) (zf_r (zf_i (zf_i (zf_i (zf_i zf_0))))) rfl h (fun v34 h => ?_)
        refine g_goto 21 dX2_mend_101 (by decide) ?_
        refine zG.sub [1, 2, 3, 4, 0] rfl ?_
        have e := Option.some.inj h
        exact K8 _ _ _ _ e.symm
      refine zG.sub [1, 2, 3, 4, 5, 0] rfl ?_
      refine zLoop_ok (Φ := (fun (q : Int32 × Int32 × Int32 × zMm) => match q with | (v21, v22, v23, m24) => zG X cX2_mend 7 "QuiverKinModel" "mend" 3 64 38 [(0, va_rf a0), (1, .int a1), (2, .int v21), (3, .int v22), (4, .int v11), (5, .int v23)] [] g m24)) o16 ?_ zFuel _ h1
      rintro ⟨v21, v22, v23, m24⟩ x20 h hl20 hr20
      unfold b_X2_mend_38 at h
      have K20 : ∀ (v21 : Int32) (v22 : Int32) (v23 : Int32) (m24 : zMm), x20 = .inr (v21, v22, v23, m24) → zG X cX2_mend 7 "QuiverKinModel" "mend" 3 64 38 [(0, va_rf a0), (1, .int a1), (2, .int v21), (3, .int v22), (4, .int v11), (5, .int v23)] [] g m24 := by
        intro v21 v22 v23 m24 e
        exact hr20 _ e
      show zG X cX2_mend 7 "QuiverKinModel" "mend" 3 64 38 [(0, va_rf a0), (1, .int a1), (2, .int v21), (3, .int v22), (4, .int v11), (5, .int v23)] [] g m24
      refine g_iload dX2_mend_38 5 rfl ?_
      refine g_aload_n dX2_mend_40 0 rfl ?_
      refine gf_r zfd_2_0 q1410  (fun _ h9 => h9) dX2_mend_41 h (fun r25 h => ?_)
      refine g_iconst (v := (0 : Int32)) dX2_mend_44 (by decide) ?_
      refine g_iald dX2_mend_45 h (fun v26 h => ?_)
      refine g_icmp_ge 98 dX2_mend_46 (by decide) (fun c => ?_) (fun c => ?_)
      · have h := zite_p h c
        refine zG.sub [0, 1, 2, 3, 4] rfl ?_
        have e := Option.some.inj h
        have e := hl20 _ e.symm
        exact K16 _ _ _ e.symm
      · have h := zite_n h c
        refine g_aload_n dX2_mend_49 0 rfl ?_
        refine g_iload dX2_mend_50 4 rfl ?_
        refine g_iload dX2_mend_52 5 rfl ?_
        refine g_cVMn [.int v11, .int v23] (fun m0 e0 => ok_X2_swapNow (xl X) g m24 a0 v11 v23 m0 e0) zc2 (by decide) (lw_V q1748 q1750 qs87 q126 q1751) rfl hy_X2_swapNow rfl ⟨by decide, by decide⟩ rfl zc_0 (by decide) dX2_mend_54 h (fun m27 h => ?_)
        refine g_aload_n dX2_mend_57 0 rfl ?_
        refine g_cVMv (rv := fun x : Int32 => Value.int x) [] (fun x0 m0 e0 => ok_X2_spiteOfSeats (xl X) g m27 a0 x0 m0 e0) zc2 (by decide) (lw_V q1926 q1928 qs110 q126 q1929) rfl hy_X2_spiteOfSeats rfl ⟨by decide, by decide⟩ rfl zc_0 (by decide) dX2_mend_58 h (fun v28 m29 h => ?_)
        refine g_istore [(6, .int v28), (0, va_rf a0), (1, .int a1), (2, .int v21), (3, .int v22), (4, .int v11), (5, .int v23)] dX2_mend_61 (by decide) (zf_r (zf_i (zf_i (zf_i (zf_i (zf_i zf_0)))))) rfl ?_
        refine g_aload_n dX2_mend_63 1 rfl ?_
        refine g_iload dX2_mend_64 5 rfl ?_
        refine g_iload dX2_mend_66 6 rfl ?_
        refine g_cVMn [.int v11, .int v23] (fun m0 e0 => ok_X2_swapNow (xl X) g m29 a0 v11 v23 m0 e0) zc2 (by decide) (lw_V q1748 q1750 qs87 q126 q1751) rfl hy_X2_swapNow rfl ⟨by decide, by decide⟩ rfl zc_0 (by decide) dX2_mend_68 h (fun m30 h => ?_)
        refine g_iload dX2_mend_71 0 rfl ?_
        refine g_iload_n dX2_mend_73 3 rfl ?_
        refine g_icmp_lt 80 dX2_mend_74 (by decide) (fun c => ?_) (fun c => ?_)
        · have h := zite_p h c
          refine g_iload dX2_mend_80 0 rfl ?_
          refine g_istore_n [(2, .int v28), (6, .int v28), (0, va_rf a0), (1, .int a1), (3, .int v22), (4, .int v11), (5, .int v23)] dX2_mend_82 (by decide) (zf_i (zf_r (zf_i (zf_i (zf_i (zf_i (zf_i zf_0))))))) rfl ?_
          refine g_bipush (v := (6 : Int32)) dX2_mend_83 (by decide) ?_
          refine g_iload dX2_mend_85 5 rfl ?_
          refine g_imul dX2_mend_87 ?_
          refine g_iload dX2_mend_88 6 rfl ?_
          refine g_iadd dX2_mend_90 ?_
          refine g_leti h (fun v31 h => ?_)
          refine g_istore_n [(3, .int v31), (2, .int v28), (6, .int v28), (0, va_rf a0), (1, .int a1), (4, .int v11), (5, .int v23)] dX2_mend_91 (by decide) (zf_i (zf_i (zf_r (zf_i (zf_i (zf_i (zf_i zf_0))))))) rfl ?_
          refine g_iinc (v := (1 : Int32)) [(3, .int v31), (2, .int v28), (6, .int v28), (0, va_rf a0), (1, .int a1), (4, .int v11)] dX2_mend_92 6 rfl (by decide) (by decide) (zf_i (zf_i (zf_i (zf_r (zf_i (zf_i (zf_i zf_0))))))) rfl h (fun v32 h => ?_)
          refine g_goto 38 dX2_mend_95 (by decide) ?_
          refine zG.sub [4, 5, 2, 1, 6, 0] rfl ?_
          have e := Option.some.inj h
          exact K20 _ _ _ _ e.symm
        · have h := zite_n h c
          refine g_goto 92 dX2_mend_77 (by decide) ?_
          refine g_iinc (v := (1 : Int32)) [(6, .int v28), (0, va_rf a0), (1, .int a1), (2, .int v21), (3, .int v22), (4, .int v11)] dX2_mend_92 6 rfl (by decide) (by decide) (zf_i (zf_r (zf_i (zf_i (zf_i (zf_i (zf_i zf_0))))))) rfl h (fun v33 h => ?_)
          refine g_goto 38 dX2_mend_95 (by decide) ?_
          refine zG.sub [2, 3, 4, 5, 6, 0] rfl ?_
          have e := Option.some.inj h
          exact K20 _ _ _ _ e.symm
  · have h := zite_p h c
    refine g_iconst (v := (-1 : Int32)) dX2_mend_9 (by decide) ?_
    refine g_iret dX2_mend_10 hxt ?_
    have e := Option.some.inj h
    exact Kret _ _ e
/-! QuiverKinModel.hedge -/
def f_X2_hedge (g : zGd) (m : zMm) (a0 : Option Nat) (a1 : Int32) (a2 : Int32) : Option (Int32 × zMm) :=
(f_X2_isIn a1 (0 : Int32) (35 : Int32)).bind fun v1 =>
if v1 = 0 then (some (((0 : Int32), m)))
else ((f_X2_isIn a2 (0 : Int32) (3 : Int32)).bind fun v2 =>
if v2 = 0 then (some (((0 : Int32), m)))
else ((zgr g m 2 0 a0).bind fun r3 =>
(zast 101 g m r3 ((71 : Int32) + a1) a2).bind fun m4 =>
some (((1 : Int32), m4))))
theorem hy_X2_hedge : zHy yX2_hedge 2 := ⟨by decide, by decide, by decide +kernel⟩
set_option maxHeartbeats 4000000 in
theorem ok_X2_hedge (l : Launch) (g : zGd) (m : zMm) (a0 : Option Nat) (a1 : Int32) (a2 : Int32) (z0 : Int32) (m0 : zMm) (h : f_X2_hedge g m a0 a1 a2 = some (z0, m0)) : zCT l yX2_hedge cX2_hedge 3 (some .boolean) 2 42 g m [va_rf a0, .int a1, .int a2] (some (.int z0)) g m0 := by
  refine zCT.of (own := "QuiverKinModel") (mn := "hedge") (by decide +kernel) rfl rfl (zla_r (zla_i (zla_i zla_0))) (zls_r (zls_i (zls_i zls_0))) (by decide) (fun X hxl hxg hxf hxt hxr hxn => ?_)
  have Kret : ∀ (y0 : Int32) (y1 : zMm), (y0, y1) = (z0, m0) → zRe X g y1 (some (.int y0)) := by
    intro y0 y1 e; cases e; exact ⟨hxf, hxr, hxn⟩
  subst hxl
  show zG X cX2_hedge 3 "QuiverKinModel" "hedge" 2 42 0 [(0, va_rf a0), (1, .int a1), (2, .int a2)] [] g m
  unfold f_X2_hedge at h
  refine g_iload_n dX2_hedge_0 1 rfl ?_
  refine g_iconst (v := (0 : Int32)) dX2_hedge_1 (by decide) ?_
  refine g_bipush (v := (35 : Int32)) dX2_hedge_2 (by decide) ?_
  refine g_cSRv (rv := fun x : Int32 => Value.int x) [.int a1, .int (0 : Int32), .int (35 : Int32)] (fun x0 e0 => ok_X2_isIn (xl X) g m a1 (0 : Int32) (35 : Int32) x0 e0) (lw_S q1534 q1535 q126 q1536) hy_X2_isIn rfl ⟨by decide, by decide⟩ rfl zc_0 (by decide) dX2_hedge_4 h (fun v1 h => ?_)
  refine g_if_eq 19 dX2_hedge_7 (by decide) (fun c => ?_) (fun c => ?_)
  · have h := zite_p h c
    refine g_iconst (v := (0 : Int32)) dX2_hedge_19 (by decide) ?_
    refine g_zret dX2_hedge_20 hxt rfl ?_
    have e := Option.some.inj h
    exact Kret _ _ e
  · have h := zite_n h c
    refine g_iload_n dX2_hedge_10 2 rfl ?_
    refine g_iconst (v := (0 : Int32)) dX2_hedge_11 (by decide) ?_
    refine g_iconst (v := (3 : Int32)) dX2_hedge_12 (by decide) ?_
    refine g_cSRv (rv := fun x : Int32 => Value.int x) [.int a2, .int (0 : Int32), .int (3 : Int32)] (fun x0 e0 => ok_X2_isIn (xl X) g m a2 (0 : Int32) (3 : Int32) x0 e0) (lw_S q1534 q1535 q126 q1536) hy_X2_isIn rfl ⟨by decide, by decide⟩ rfl zc_0 (by decide) dX2_hedge_13 h (fun v2 h => ?_)
    refine g_if_ne 21 dX2_hedge_16 (by decide) (fun c => ?_) (fun c => ?_)
    · have h := zite_n h c
      refine g_aload_n dX2_hedge_21 0 rfl ?_
      refine gf_r zfd_2_0 q1410  (fun _ h9 => h9) dX2_hedge_22 h (fun r3 h => ?_)
      refine g_bipush (v := (71 : Int32)) dX2_hedge_25 (by decide) ?_
      refine g_iload_n dX2_hedge_27 1 rfl ?_
      refine g_iadd dX2_hedge_28 ?_
      refine g_iload_n dX2_hedge_29 2 rfl ?_
      refine g_iast dX2_hedge_30 h (fun m4 h => ?_)
      refine g_iconst (v := (1 : Int32)) dX2_hedge_31 (by decide) ?_
      refine g_zret dX2_hedge_32 hxt rfl ?_
      have e := Option.some.inj h
      exact Kret _ _ e
    · have h := zite_p h c
      refine g_iconst (v := (0 : Int32)) dX2_hedge_19 (by decide) ?_
      refine g_zret dX2_hedge_20 hxt rfl ?_
      have e := Option.some.inj h
      exact Kret _ _ e
/-! QuiverKinModel.isFlight -/
def f_X2_isFlight (a0 : Int32) (a1 : Int32) : Option (Int32) :=
(f_X2_isIn a0 (0 : Int32) (35 : Int32)).bind fun v1 =>
if v1 = 0 then (some ((0 : Int32)))
else ((f_X2_isIn a1 (0 : Int32) (3 : Int32)).bind fun v2 =>
if v2 = 0 then (some ((0 : Int32)))
else (some ((1 : Int32))))
theorem hy_X2_isFlight : zHy yX2_isFlight 2 := ⟨by decide, by decide, by decide +kernel⟩
set_option maxHeartbeats 4000000 in
theorem ok_X2_isFlight (l : Launch) (g : zGd) (m : zMm) (a0 : Int32) (a1 : Int32) (z0 : Int32) (h : f_X2_isFlight a0 a1 = some z0) : zCT l yX2_isFlight cX2_isFlight 2 (some .boolean) 2 42 g m [.int a0, .int a1] (some (.int z0)) g m := by
  refine zCT.of (own := "QuiverKinModel") (mn := "isFlight") (by decide +kernel) rfl rfl (zla_i (zla_i zla_0)) (zls_i (zls_i zls_0)) (by decide) (fun X hxl hxg hxf hxt hxr hxn => ?_)
  have Kret : ∀ (y0 : Int32), y0 = z0 → zRe X g m (some (.int y0)) := by
    intro y0 e; cases e; exact ⟨hxf, hxr, hxn⟩
  subst hxl
  show zG X cX2_isFlight 2 "QuiverKinModel" "isFlight" 2 42 0 [(0, .int a0), (1, .int a1)] [] g m
  unfold f_X2_isFlight at h
  refine g_iload_n dX2_isFlight_0 0 rfl ?_
  refine g_iconst (v := (0 : Int32)) dX2_isFlight_1 (by decide) ?_
  refine g_bipush (v := (35 : Int32)) dX2_isFlight_2 (by decide) ?_
  refine g_cSRv (rv := fun x : Int32 => Value.int x) [.int a0, .int (0 : Int32), .int (35 : Int32)] (fun x0 e0 => ok_X2_isIn (xl X) g m a0 (0 : Int32) (35 : Int32) x0 e0) (lw_S q1534 q1535 q126 q1536) hy_X2_isIn rfl ⟨by decide, by decide⟩ rfl zc_0 (by decide) dX2_isFlight_4 h (fun v1 h => ?_)
  refine g_if_eq 23 dX2_isFlight_7 (by decide) (fun c => ?_) (fun c => ?_)
  · have h := zite_p h c
    refine g_iconst (v := (0 : Int32)) dX2_isFlight_23 (by decide) ?_
    refine g_zret dX2_isFlight_24 hxt rfl ?_
    have e := Option.some.inj h
    exact Kret _ e
  · have h := zite_n h c
    refine g_iload_n dX2_isFlight_10 1 rfl ?_
    refine g_iconst (v := (0 : Int32)) dX2_isFlight_11 (by decide) ?_
    refine g_iconst (v := (3 : Int32)) dX2_isFlight_12 (by decide) ?_
    refine g_cSRv (rv := fun x : Int32 => Value.int x) [.int a1, .int (0 : Int32), .int (3 : Int32)] (fun x0 e0 => ok_X2_isIn (xl X) g m a1 (0 : Int32) (3 : Int32) x0 e0) (lw_S q1534 q1535 q126 q1536) hy_X2_isIn rfl ⟨by decide, by decide⟩ rfl zc_0 (by decide) dX2_isFlight_13 h (fun v2 h => ?_)
    refine g_if_eq 23 dX2_isFlight_16 (by decide) (fun c => ?_) (fun c => ?_)
    · have h := zite_p h c
      refine g_iconst (v := (0 : Int32)) dX2_isFlight_23 (by decide) ?_
      refine g_zret dX2_isFlight_24 hxt rfl ?_
      have e := Option.some.inj h
      exact Kret _ e
    · have h := zite_n h c
      refine g_iconst (v := (1 : Int32)) dX2_isFlight_19 (by decide) ?_
      refine g_goto 24 dX2_isFlight_20 (by decide) ?_
      refine g_zret dX2_isFlight_24 hxt rfl ?_
      have e := Option.some.inj h
      exact Kret _ e
/-! QuiverKinModel.nextBy -/
def f_X2_nextBy (a0 : Int32) (a1 : Int32) : Option (Int32) :=
((if a1 = 0 then (some ((-1 : Int32)))
else (if a1 = (2 : Int32) then (some ((1 : Int32)))
else (some ((0 : Int32)))) : Option (Int32))).bind fun v2 =>
zlt ((a0 / (6 : Int32)) + v2) fun v3 =>
((if a1 = (1 : Int32) then (some ((1 : Int32)))
else (if a1 = (3 : Int32) then (some ((-1 : Int32)))
else (some ((0 : Int32)))) : Option (Int32))).bind fun v5 =>
zlt ((zrem a0 (6 : Int32)) + v5) fun v6 =>
(f_X2_isIn v3 (0 : Int32) (5 : Int32)).bind fun v7 =>
if v7 = 0 then (some ((-1 : Int32)))
else ((f_X2_isIn v6 (0 : Int32) (5 : Int32)).bind fun v8 =>
if v8 = 0 then (some ((-1 : Int32)))
else (some ((((6 : Int32) * v3) + v6))))
theorem hy_X2_nextBy : zHy yX2_nextBy 2 := ⟨by decide, by decide, by decide +kernel⟩
set_option maxHeartbeats 4000000 in
theorem ok_X2_nextBy (l : Launch) (g : zGd) (m : zMm) (a0 : Int32) (a1 : Int32) (z0 : Int32) (h : f_X2_nextBy a0 a1 = some z0) : zCT l yX2_nextBy cX2_nextBy 4 (some .int) 2 42 g m [.int a0, .int a1] (some (.int z0)) g m := by
  refine zCT.of (own := "QuiverKinModel") (mn := "nextBy") (by decide +kernel) rfl rfl (zla_i (zla_i zla_0)) (zls_i (zls_i zls_0)) (by decide) (fun X hxl hxg hxf hxt hxr hxn => ?_)
  have Kret : ∀ (y0 : Int32), y0 = z0 → zRe X g m (some (.int y0)) := by
    intro y0 e; cases e; exact ⟨hxf, hxr, hxn⟩
  subst hxl
  show zG X cX2_nextBy 4 "QuiverKinModel" "nextBy" 2 42 0 [(0, .int a0), (1, .int a1)] [] g m
  unfold f_X2_nextBy at h
  refine g_iload_n dX2_nextBy_0 0 rfl ?_
  refine g_bipush (v := (6 : Int32)) dX2_nextBy_1 (by decide) ?_
  refine g_idivC dX2_nextBy_3 (by decide) ?_
  refine g_iload_n dX2_nextBy_4 1 rfl ?_
  obtain ⟨o1, h1, h2⟩ := zB_e h
  have K1 : ∀ (v2 : Int32), o1 = v2 → zG X cX2_nextBy 4 "QuiverKinModel" "nextBy" 2 42 22 [(0, .int a0), (1, .int a1)] [.int v2, .int (a0 / (6 : Int32))] g m := by
    intro v2 e
    rw [e] at h2
    have h := h2
    refine g_iadd dX2_nextBy_22 ?_
    refine g_leti h (fun v3 h => ?_)
    refine g_istore_n [(2, .int v3), (0, .int a0), (1, .int a1)] dX2_nextBy_23 (by decide) (zf_i (zf_i zf_0)) rfl ?_
    refine g_iload_n dX2_nextBy_24 1 rfl ?_
    refine g_bipush (v := (6 : Int32)) dX2_nextBy_25 (by decide) ?_
    refine g_iremC dX2_nextBy_27 (by decide) ?_
    refine g_iload_n dX2_nextBy_28 2 rfl ?_
    refine g_iconst (v := (1 : Int32)) dX2_nextBy_29 (by decide) ?_
    obtain ⟨o4, h1, h2⟩ := zB_e h
    have K4 : ∀ (v5 : Int32), o4 = v5 → zG X cX2_nextBy 4 "QuiverKinModel" "nextBy" 2 42 47 [(2, .int v3)] [.int v5, .int (zrem a0 (6 : Int32))] g m := by
      intro v5 e
      rw [e] at h2
      have h := h2
      refine g_iadd dX2_nextBy_47 ?_
      refine g_leti h (fun v6 h => ?_)
      refine g_istore_n [(3, .int v6), (2, .int v3)] dX2_nextBy_48 (by decide) (zf_i zf_0) rfl ?_
      refine g_iload_n dX2_nextBy_49 1 rfl ?_
      refine g_iconst (v := (0 : Int32)) dX2_nextBy_50 (by decide) ?_
      refine g_iconst (v := (5 : Int32)) dX2_nextBy_51 (by decide) ?_
      refine g_cSRv (rv := fun x : Int32 => Value.int x) [.int v3, .int (0 : Int32), .int (5 : Int32)] (fun x0 e0 => ok_X2_isIn (xl X) g m v3 (0 : Int32) (5 : Int32) x0 e0) (lw_S q1534 q1535 q126 q1536) hy_X2_isIn rfl ⟨by decide, by decide⟩ rfl zc_0 (by decide) dX2_nextBy_52 h (fun v7 h => ?_)
      refine g_if_eq 76 dX2_nextBy_55 (by decide) (fun c => ?_) (fun c => ?_)
      · have h := zite_p h c
        refine g_iconst (v := (-1 : Int32)) dX2_nextBy_76 (by decide) ?_
        refine g_iret dX2_nextBy_77 hxt ?_
        have e := Option.some.inj h
        exact Kret _ e
      · have h := zite_n h c
        refine g_iload_n dX2_nextBy_58 0 rfl ?_
        refine g_iconst (v := (0 : Int32)) dX2_nextBy_59 (by decide) ?_
        refine g_iconst (v := (5 : Int32)) dX2_nextBy_60 (by decide) ?_
        refine g_cSRv (rv := fun x : Int32 => Value.int x) [.int v6, .int (0 : Int32), .int (5 : Int32)] (fun x0 e0 => ok_X2_isIn (xl X) g m v6 (0 : Int32) (5 : Int32) x0 e0) (lw_S q1534 q1535 q126 q1536) hy_X2_isIn rfl ⟨by decide, by decide⟩ rfl zc_0 (by decide) dX2_nextBy_61 h (fun v8 h => ?_)
        refine g_if_eq 76 dX2_nextBy_64 (by decide) (fun c => ?_) (fun c => ?_)
        · have h := zite_p h c
          refine g_iconst (v := (-1 : Int32)) dX2_nextBy_76 (by decide) ?_
          refine g_iret dX2_nextBy_77 hxt ?_
          have e := Option.some.inj h
          exact Kret _ e
        · have h := zite_n h c
          refine g_bipush (v := (6 : Int32)) dX2_nextBy_67 (by decide) ?_
          refine g_iload_n dX2_nextBy_69 1 rfl ?_
          refine g_imul dX2_nextBy_70 ?_
          refine g_iload_n dX2_nextBy_71 0 rfl ?_
          refine g_iadd dX2_nextBy_72 ?_
          refine g_goto 77 dX2_nextBy_73 (by decide) ?_
          refine g_iret dX2_nextBy_77 hxt ?_
          have e := Option.some.inj h
          exact Kret _ e
    have h := h1
    refine g_icmp_ne 37 dX2_nextBy_30 (by decide) (fun c => ?_) (fun c => ?_)
    · have h := zite_n h c
      refine g_iload_n dX2_nextBy_37 2 rfl ?_
      refine g_iconst (v := (3 : Int32)) dX2_nextBy_38 (by decide) ?_
      refine g_icmp_ne 46 dX2_nextBy_39 (by decide) (fun c => ?_) (fun c => ?_)
      · have h := zite_n h c
        refine g_iconst (v := (0 : Int32)) dX2_nextBy_46 (by decide) ?_
        refine zG.sub [0] rfl ?_
        have e := Option.some.inj h
        exact K4 _ e.symm
      · have h := zite_p h c
        refine g_iconst (v := (-1 : Int32)) dX2_nextBy_42 (by decide) ?_
        refine g_goto 47 dX2_nextBy_43 (by decide) ?_
        refine zG.sub [0] rfl ?_
        have e := Option.some.inj h
        exact K4 _ e.symm
    · have h := zite_p h c
      refine g_iconst (v := (1 : Int32)) dX2_nextBy_33 (by decide) ?_
      refine g_goto 47 dX2_nextBy_34 (by decide) ?_
      refine zG.sub [0] rfl ?_
      have e := Option.some.inj h
      exact K4 _ e.symm
  have h := h1
  refine g_if_ne 12 dX2_nextBy_5 (by decide) (fun c => ?_) (fun c => ?_)
  · have h := zite_n h c
    refine g_iload_n dX2_nextBy_12 1 rfl ?_
    refine g_iconst (v := (2 : Int32)) dX2_nextBy_13 (by decide) ?_
    refine g_icmp_ne 21 dX2_nextBy_14 (by decide) (fun c => ?_) (fun c => ?_)
    · have h := zite_n h c
      refine g_iconst (v := (0 : Int32)) dX2_nextBy_21 (by decide) ?_
      refine zG.sub [0, 1] rfl ?_
      have e := Option.some.inj h
      exact K1 _ e.symm
    · have h := zite_p h c
      refine g_iconst (v := (1 : Int32)) dX2_nextBy_17 (by decide) ?_
      refine g_goto 22 dX2_nextBy_18 (by decide) ?_
      refine zG.sub [0, 1] rfl ?_
      have e := Option.some.inj h
      exact K1 _ e.symm
  · have h := zite_p h c
    refine g_iconst (v := (-1 : Int32)) dX2_nextBy_8 (by decide) ?_
    refine g_goto 22 dX2_nextBy_9 (by decide) ?_
    refine zG.sub [0, 1] rfl ?_
    have e := Option.some.inj h
    exact K1 _ e.symm
/-! QuiverKinModel.turnedBy -/
def f_X2_turnedBy (a0 : Int32) (a1 : Int32) : Option (Int32) :=
if a0 = 0 then (some (a1))
else (if a0 = (1 : Int32) then (if a1 = 0 then (some ((1 : Int32)))
else (if a1 = (1 : Int32) then (some ((0 : Int32)))
else (if a1 = (2 : Int32) then (some ((3 : Int32)))
else (some ((2 : Int32))))))
else (some (((3 : Int32) - a1))))
theorem hy_X2_turnedBy : zHy yX2_turnedBy 2 := ⟨by decide, by decide, by decide +kernel⟩
set_option maxHeartbeats 4000000 in
theorem ok_X2_turnedBy (l : Launch) (g : zGd) (m : zMm) (a0 : Int32) (a1 : Int32) (z0 : Int32) (h : f_X2_turnedBy a0 a1 = some z0) : zCT l yX2_turnedBy cX2_turnedBy 2 (some .int) 1 20 g m [.int a0, .int a1] (some (.int z0)) g m := by
  refine zCT.of (own := "QuiverKinModel") (mn := "turnedBy") (by decide +kernel) rfl rfl (zla_i (zla_i zla_0)) (zls_i (zls_i zls_0)) (by decide) (fun X hxl hxg hxf hxt hxr hxn => ?_)
  have Kret : ∀ (y0 : Int32), y0 = z0 → zRe X g m (some (.int y0)) := by
    intro y0 e; cases e; exact ⟨hxf, hxr, hxn⟩
  subst hxl
  show zG X cX2_turnedBy 2 "QuiverKinModel" "turnedBy" 1 20 0 [(0, .int a0), (1, .int a1)] [] g m
  unfold f_X2_turnedBy at h
  refine g_iload_n dX2_turnedBy_0 0 rfl ?_
  refine g_if_ne 8 dX2_turnedBy_1 (by decide) (fun c => ?_) (fun c => ?_)
  · have h := zite_n h c
    refine g_iload_n dX2_turnedBy_8 0 rfl ?_
    refine g_iconst (v := (1 : Int32)) dX2_turnedBy_9 (by decide) ?_
    refine g_icmp_ne 43 dX2_turnedBy_10 (by decide) (fun c => ?_) (fun c => ?_)
    · have h := zite_n h c
      refine g_iconst (v := (3 : Int32)) dX2_turnedBy_43 (by decide) ?_
      refine g_iload_n dX2_turnedBy_44 1 rfl ?_
      refine g_isub dX2_turnedBy_45 ?_
      refine g_iret dX2_turnedBy_46 hxt ?_
      have e := Option.some.inj h
      exact Kret _ e
    · have h := zite_p h c
      refine g_iload_n dX2_turnedBy_13 1 rfl ?_
      refine g_if_ne 21 dX2_turnedBy_14 (by decide) (fun c => ?_) (fun c => ?_)
      · have h := zite_n h c
        refine g_iload_n dX2_turnedBy_21 1 rfl ?_
        refine g_iconst (v := (1 : Int32)) dX2_turnedBy_22 (by decide) ?_
        refine g_icmp_ne 30 dX2_turnedBy_23 (by decide) (fun c => ?_) (fun c => ?_)
        · have h := zite_n h c
          refine g_iload_n dX2_turnedBy_30 1 rfl ?_
          refine g_iconst (v := (2 : Int32)) dX2_turnedBy_31 (by decide) ?_
          refine g_icmp_ne 39 dX2_turnedBy_32 (by decide) (fun c => ?_) (fun c => ?_)
          · have h := zite_n h c
            refine g_iconst (v := (2 : Int32)) dX2_turnedBy_39 (by decide) ?_
            refine g_goto 46 dX2_turnedBy_40 (by decide) ?_
            refine g_iret dX2_turnedBy_46 hxt ?_
            have e := Option.some.inj h
            exact Kret _ e
          · have h := zite_p h c
            refine g_iconst (v := (3 : Int32)) dX2_turnedBy_35 (by decide) ?_
            refine g_goto 46 dX2_turnedBy_36 (by decide) ?_
            refine g_iret dX2_turnedBy_46 hxt ?_
            have e := Option.some.inj h
            exact Kret _ e
        · have h := zite_p h c
          refine g_iconst (v := (0 : Int32)) dX2_turnedBy_26 (by decide) ?_
          refine g_goto 46 dX2_turnedBy_27 (by decide) ?_
          refine g_iret dX2_turnedBy_46 hxt ?_
          have e := Option.some.inj h
          exact Kret _ e
      · have h := zite_p h c
        refine g_iconst (v := (1 : Int32)) dX2_turnedBy_17 (by decide) ?_
        refine g_goto 46 dX2_turnedBy_18 (by decide) ?_
        refine g_iret dX2_turnedBy_46 hxt ?_
        have e := Option.some.inj h
        exact Kret _ e
  · have h := zite_p h c
    refine g_iload_n dX2_turnedBy_4 1 rfl ?_
    refine g_goto 46 dX2_turnedBy_5 (by decide) ?_
    refine g_iret dX2_turnedBy_46 hxt ?_
    have e := Option.some.inj h
    exact Kret _ e
/-! QuiverKinModel.isFlown -/
def b_X2_isFlown_2 (g : zGd) (a0 : Option Nat) : Int32 × zMm → Option ((zMm) ⊕ (Int32 × zMm)) := fun (v4, m5) =>
if (144 : Int32) ≤ v4 then (some (.inl m5))
else ((zgr g m5 2 31 a0).bind fun r6 =>
(zast 103 g m5 r6 v4 (vp_nar .boolean (0 : Int32))).bind fun m7 =>
zlt (v4 + (1 : Int32)) fun v8 =>
some (.inr (v8, m7)))
def b_X2_isFlown_42 (g : zGd) (a0 : Option Nat) : zMm → Option ((((Int32 × zMm) ⊕ (zMm))) ⊕ (zMm)) := fun m16 =>
(zgi g m16 2 33 a0).bind fun v17 =>
(zgi g m16 2 35 a0).bind fun v18 =>
(f_X2_nextBy v17 v18).bind fun v19 =>
if v19 = (-1 : Int32) then (some (.inl (.inr m16)))
else ((zgi g m16 2 33 a0).bind fun v20 =>
(zgi g m16 2 35 a0).bind fun v21 =>
(f_X2_nextBy v20 v21).bind fun v22 =>
(zpi g m16 2 33 a0 v22).bind fun m23 =>
(zgi g m23 2 32 a0).bind fun v24 =>
(zpi g m23 2 32 a0 (v24 + (1 : Int32))).bind fun m25 =>
(zgr g m25 2 31 a0).bind fun r26 =>
(zgi g m25 2 33 a0).bind fun v27 =>
(zgi g m25 2 35 a0).bind fun v28 =>
(zald 103 g m25 r26 (((4 : Int32) * v27) + v28)).bind fun v29 =>
if v29 = 0 then ((zgr g m25 2 31 a0).bind fun r30 =>
(zgi g m25 2 33 a0).bind fun v31 =>
(zgi g m25 2 35 a0).bind fun v32 =>
(zast 103 g m25 r30 (((4 : Int32) * v31) + v32) (vp_nar .boolean (1 : Int32))).bind fun m33 =>
(zgr g m33 2 0 a0).bind fun r34 =>
(zgi g m33 2 33 a0).bind fun v35 =>
(zald 101 g m33 r34 ((71 : Int32) + v35)).bind fun v36 =>
if v36 = (3 : Int32) then (some (.inl (.inl (((1 : Int32), m33)))))
else ((zgi g m33 2 34 a0).bind fun v37 =>
((if v36 ≤ 0 then (some ((0 : Int32)))
else (some ((1 : Int32))) : Option (Int32))).bind fun v39 =>
(zpi g m33 2 34 a0 (v37 + v39)).bind fun m40 =>
(zgi g m40 2 35 a0).bind fun v41 =>
(f_X2_turnedBy v36 v41).bind fun v42 =>
(zpi g m40 2 35 a0 v42).bind fun m43 =>
some (.inr m43)))
else (some (.inl (.inl (((0 : Int32), m25))))))
def f_X2_isFlown (g : zGd) (m : zMm) (a0 : Option Nat) (a1 : Int32) (a2 : Int32) : Option (Int32 × zMm) :=
(zLoop (b_X2_isFlown_2 g a0) zFuel ((0 : Int32), m)).bind fun m2 =>
(zpi g m2 2 32 a0 (0 : Int32)).bind fun m9 =>
(zpi g m9 2 33 a0 a1).bind fun m10 =>
(zpi g m10 2 34 a0 (0 : Int32)).bind fun m11 =>
(zpi g m11 2 35 a0 a2).bind fun m12 =>
zEx (σ := zMm) (zLoop (b_X2_isFlown_42 g a0) zFuel m12) fun m14 =>
some (((1 : Int32), m14))
theorem hy_X2_isFlown : zHy yX2_isFlown 2 := ⟨by decide, by decide, by decide +kernel⟩
set_option maxHeartbeats 4000000 in
theorem ok_X2_isFlown (l : Launch) (g : zGd) (m : zMm) (a0 : Option Nat) (a1 : Int32) (a2 : Int32) (z0 : Int32) (m0 : zMm) (h : f_X2_isFlown g m a0 a1 a2 = some (z0, m0)) : zCT l yX2_isFlown cX2_isFlown 4 (some .boolean) 3 65 g m [va_rf a0, .int a1, .int a2] (some (.int z0)) g m0 := by
  refine zCT.of (own := "QuiverKinModel") (mn := "isFlown") (by decide +kernel) rfl rfl (zla_r (zla_i (zla_i zla_0))) (zls_r (zls_i (zls_i zls_0))) (by decide) (fun X hxl hxg hxf hxt hxr hxn => ?_)
  have Kret : ∀ (y0 : Int32) (y1 : zMm), (y0, y1) = (z0, m0) → zRe X g y1 (some (.int y0)) := by
    intro y0 y1 e; cases e; exact ⟨hxf, hxr, hxn⟩
  subst hxl
  show zG X cX2_isFlown 4 "QuiverKinModel" "isFlown" 3 65 0 [(0, va_rf a0), (1, .int a1), (2, .int a2)] [] g m
  unfold f_X2_isFlown at h
  refine g_iconst (v := (0 : Int32)) dX2_isFlown_0 (by decide) ?_
  refine g_istore_n [(3, .int (0 : Int32)), (0, va_rf a0), (1, .int a1), (2, .int a2)] dX2_isFlown_1 (by decide) (zf_r (zf_i (zf_i zf_0))) rfl ?_
  obtain ⟨o1, h1, h2⟩ := zB_e h
  have K1 : ∀ (m2 : zMm), o1 = m2 → zG X cX2_isFlown 4 "QuiverKinModel" "isFlown" 3 65 22 [(0, va_rf a0), (1, .int a1), (2, .int a2)] [] g m2 := by
    intro m2 e
    rw [e] at h2
    have h := h2
    refine g_aload_n dX2_isFlown_22 0 rfl ?_
    refine g_iconst (v := (0 : Int32)) dX2_isFlown_23 (by decide) ?_
    refine gp_i zpd_2_32 q1442 (fun _ h9 => h9) dX2_isFlown_24 h (fun m9 h => ?_)
    refine g_aload_n dX2_isFlown_27 0 rfl ?_
    refine g_iload_n dX2_isFlown_28 1 rfl ?_
    refine gp_i zpd_2_33 q1443 (fun _ h9 => h9) dX2_isFlown_29 h (fun m10 h => ?_)
    refine g_aload_n dX2_isFlown_32 0 rfl ?_
    refine g_iconst (v := (0 : Int32)) dX2_isFlown_33 (by decide) ?_
    refine gp_i zpd_2_34 q1444 (fun _ h9 => h9) dX2_isFlown_34 h (fun m11 h => ?_)
    refine g_aload_n dX2_isFlown_37 0 rfl ?_
    refine g_iload_n dX2_isFlown_38 2 rfl ?_
    refine gp_i zpd_2_35 q1445 (fun _ h9 => h9) dX2_isFlown_39 h (fun m12 h => ?_)
    obtain ⟨o13, h1, hl13, hr13⟩ := zEx_e h
    have K13 : ∀ (m14 : zMm), o13 = .inr m14 → zG X cX2_isFlown 4 "QuiverKinModel" "isFlown" 3 65 173 [] [] g m14 := by
      intro m14 e
      have h := hr13 _ e
      refine g_iconst (v := (1 : Int32)) dX2_isFlown_173 (by decide) ?_
      refine g_zret dX2_isFlown_174 hxt rfl ?_
      have e := Option.some.inj h
      exact Kret _ _ e
    refine zG.sub [0] rfl ?_
    refine zLoop_ok (Φ := (fun m16 : zMm => zG X cX2_isFlown 4 "QuiverKinModel" "isFlown" 3 65 42 [(0, va_rf a0)] [] g m16)) o13 ?_ zFuel _ h1
    rintro m16 x15 h hl15 hr15
    unfold b_X2_isFlown_42 at h
    have K15 : ∀ (m16 : zMm), x15 = .inr m16 → zG X cX2_isFlown 4 "QuiverKinModel" "isFlown" 3 65 42 [(0, va_rf a0)] [] g m16 := by
      intro m16 e
      exact hr15 _ e
    show zG X cX2_isFlown 4 "QuiverKinModel" "isFlown" 3 65 42 [(0, va_rf a0)] [] g m16
    refine g_aload_n dX2_isFlown_42 0 rfl ?_
    refine gf_i zfd_2_33 q1443  (fun _ h9 => h9) dX2_isFlown_43 h (fun v17 h => ?_)
    refine g_aload_n dX2_isFlown_46 0 rfl ?_
    refine gf_i zfd_2_35 q1445  (fun _ h9 => h9) dX2_isFlown_47 h (fun v18 h => ?_)
    refine g_cSRv (rv := fun x : Int32 => Value.int x) [.int v17, .int v18] (fun x0 e0 => ok_X2_nextBy (xl X) g m16 v17 v18 x0 e0) (lw_S q1949 q1950 q126 q1951) hy_X2_nextBy rfl ⟨by decide, by decide⟩ rfl zc_0 (by decide) dX2_isFlown_50 h (fun v19 h => ?_)
    refine g_iconst (v := (-1 : Int32)) dX2_isFlown_53 (by decide) ?_
    refine g_icmp_eq 173 dX2_isFlown_54 (by decide) (fun c => ?_) (fun c => ?_)
    · have h := zite_p h c
      refine zG.sub [] rfl ?_
      have e := Option.some.inj h
      have e := hl15 _ e.symm
      exact K13 _ e.symm
    · have h := zite_n h c
      refine g_aload_n dX2_isFlown_57 0 rfl ?_
      refine g_aload_n dX2_isFlown_58 0 rfl ?_
      refine gf_i zfd_2_33 q1443  (fun _ h9 => h9) dX2_isFlown_59 h (fun v20 h => ?_)
      refine g_aload_n dX2_isFlown_62 0 rfl ?_
      refine gf_i zfd_2_35 q1445  (fun _ h9 => h9) dX2_isFlown_63 h (fun v21 h => ?_)
      refine g_cSRv (rv := fun x : Int32 => Value.int x) [.int v20, .int v21] (fun x0 e0 => ok_X2_nextBy (xl X) g m16 v20 v21 x0 e0) (lw_S q1949 q1950 q126 q1951) hy_X2_nextBy rfl ⟨by decide, by decide⟩ rfl (zc_r zc_0) (by decide) dX2_isFlown_66 h (fun v22 h => ?_)
      refine gp_i zpd_2_33 q1443 (fun _ h9 => h9) dX2_isFlown_69 h (fun m23 h => ?_)
      refine g_aload_n dX2_isFlown_72 0 rfl ?_
      refine g_dup dX2_isFlown_73 (zcat_r _) ?_
      refine gf_i zfd_2_32 q1442  (fun _ h9 => h9) dX2_isFlown_74 h (fun v24 h => ?_)
      refine g_iconst (v := (1 : Int32)) dX2_isFlown_77 (by decide) ?_
      refine g_iadd dX2_isFlown_78 ?_
      refine gp_i zpd_2_32 q1442 (fun _ h9 => h9) dX2_isFlown_79 h (fun m25 h => ?_)
      refine g_aload_n dX2_isFlown_82 0 rfl ?_
      refine gf_r zfd_2_31 q1441  (fun _ h9 => h9) dX2_isFlown_83 h (fun r26 h => ?_)
      refine g_iconst (v := (4 : Int32)) dX2_isFlown_86 (by decide) ?_
      refine g_aload_n dX2_isFlown_87 0 rfl ?_
      refine gf_i zfd_2_33 q1443  (fun _ h9 => h9) dX2_isFlown_88 h (fun v27 h => ?_)
      refine g_imul dX2_isFlown_91 ?_
      refine g_aload_n dX2_isFlown_92 0 rfl ?_
      refine gf_i zfd_2_35 q1445  (fun _ h9 => h9) dX2_isFlown_93 h (fun v28 h => ?_)
      refine g_iadd dX2_isFlown_96 ?_
      refine g_zald dX2_isFlown_97 h (fun v29 h => ?_)
      refine g_if_eq 103 dX2_isFlown_98 (by decide) (fun c => ?_) (fun c => ?_)
      · have h := zite_p h c
        refine g_aload_n dX2_isFlown_103 0 rfl ?_
        refine gf_r zfd_2_31 q1441  (fun _ h9 => h9) dX2_isFlown_104 h (fun r30 h => ?_)
        refine g_iconst (v := (4 : Int32)) dX2_isFlown_107 (by decide) ?_
        refine g_aload_n dX2_isFlown_108 0 rfl ?_
        refine gf_i zfd_2_33 q1443  (fun _ h9 => h9) dX2_isFlown_109 h (fun v31 h => ?_)
        refine g_imul dX2_isFlown_112 ?_
        refine g_aload_n dX2_isFlown_113 0 rfl ?_
        refine gf_i zfd_2_35 q1445  (fun _ h9 => h9) dX2_isFlown_114 h (fun v32 h => ?_)
        refine g_iadd dX2_isFlown_117 ?_
        refine g_iconst (v := (1 : Int32)) dX2_isFlown_118 (by decide) ?_
        refine g_zast dX2_isFlown_119 h (fun m33 h => ?_)
        refine g_aload_n dX2_isFlown_120 0 rfl ?_
        refine gf_r zfd_2_0 q1410  (fun _ h9 => h9) dX2_isFlown_121 h (fun r34 h => ?_)
        refine g_bipush (v := (71 : Int32)) dX2_isFlown_124 (by decide) ?_
        refine g_aload_n dX2_isFlown_126 0 rfl ?_
        refine gf_i zfd_2_33 q1443  (fun _ h9 => h9) dX2_isFlown_127 h (fun v35 h => ?_)
        refine g_iadd dX2_isFlown_130 ?_
        refine g_iald dX2_isFlown_131 h (fun v36 h => ?_)
        refine g_istore_n [(3, .int v36), (0, va_rf a0)] dX2_isFlown_132 (by decide) (zf_r zf_0) rfl ?_
        refine g_iload_n dX2_isFlown_133 0 rfl ?_
        refine g_iconst (v := (3 : Int32)) dX2_isFlown_134 (by decide) ?_
        refine g_icmp_ne 140 dX2_isFlown_135 (by decide) (fun c => ?_) (fun c => ?_)
        · have h := zite_n h c
          refine g_aload_n dX2_isFlown_140 1 rfl ?_
          refine g_dup dX2_isFlown_141 (zcat_r _) ?_
          refine gf_i zfd_2_34 q1444  (fun _ h9 => h9) dX2_isFlown_142 h (fun v37 h => ?_)
          refine g_iload_n dX2_isFlown_145 0 rfl ?_
          obtain ⟨o38, h1, h2⟩ := zB_e h
          have K38 : ∀ (v39 : Int32), o38 = v39 → zG X cX2_isFlown 4 "QuiverKinModel" "isFlown" 3 65 154 [(0, va_rf a0), (3, .int v36)] [.int v39, .int v37, va_rf a0] g m33 := by
            intro v39 e
            rw [e] at h2
            have h := h2
            refine g_iadd dX2_isFlown_154 ?_
            refine gp_i zpd_2_34 q1444 (fun _ h9 => h9) dX2_isFlown_155 h (fun m40 h => ?_)
            refine g_aload_n dX2_isFlown_158 0 rfl ?_
            refine g_iload_n dX2_isFlown_159 1 rfl ?_
            refine g_aload_n dX2_isFlown_160 0 rfl ?_
            refine gf_i zfd_2_35 q1445  (fun _ h9 => h9) dX2_isFlown_161 h (fun v41 h => ?_)
            refine g_cSRv (rv := fun x : Int32 => Value.int x) [.int v36, .int v41] (fun x0 e0 => ok_X2_turnedBy (xl X) g m40 v36 v41 x0 e0) (lw_S q1952 q1953 q126 q1954) hy_X2_turnedBy rfl ⟨by decide, by decide⟩ rfl (zc_r zc_0) (by decide) dX2_isFlown_164 h (fun v42 h => ?_)
            refine gp_i zpd_2_35 q1445 (fun _ h9 => h9) dX2_isFlown_167 h (fun m43 h => ?_)
            refine g_goto 42 dX2_isFlown_170 (by decide) ?_
            refine zG.sub [0] rfl ?_
            have e := Option.some.inj h
            exact K15 _ e.symm
          have h := h1
          refine g_if_le 153 dX2_isFlown_146 (by decide) (fun c => ?_) (fun c => ?_)
          · have h := zite_p h c
            refine g_iconst (v := (0 : Int32)) dX2_isFlown_153 (by decide) ?_
            refine zG.sub [1, 0] rfl ?_
            have e := Option.some.inj h
            exact K38 _ e.symm
          · have h := zite_n h c
            refine g_iconst (v := (1 : Int32)) dX2_isFlown_149 (by decide) ?_
            refine g_goto 154 dX2_isFlown_150 (by decide) ?_
            refine zG.sub [1, 0] rfl ?_
            have e := Option.some.inj h
            exact K38 _ e.symm
        · have h := zite_p h c
          refine g_iconst (v := (1 : Int32)) dX2_isFlown_138 (by decide) ?_
          refine g_zret dX2_isFlown_139 hxt rfl ?_
          have e := Option.some.inj h
          have e := hl15 _ e.symm
          have e := hl13 _ e.symm
          exact Kret _ _ e
      · have h := zite_n h c
        refine g_iconst (v := (0 : Int32)) dX2_isFlown_101 (by decide) ?_
        refine g_zret dX2_isFlown_102 hxt rfl ?_
        have e := Option.some.inj h
        have e := hl15 _ e.symm
        have e := hl13 _ e.symm
        exact Kret _ _ e
  refine zG.sub [1, 2, 3, 0] rfl ?_
  refine zLoop_ok (Φ := (fun (q : Int32 × zMm) => match q with | (v4, m5) => zG X cX2_isFlown 4 "QuiverKinModel" "isFlown" 3 65 2 [(0, va_rf a0), (1, .int a1), (2, .int a2), (3, .int v4)] [] g m5)) o1 ?_ zFuel _ h1
  rintro ⟨v4, m5⟩ x3 h hl3 hr3
  unfold b_X2_isFlown_2 at h
  have K3 : ∀ (v4 : Int32) (m5 : zMm), x3 = .inr (v4, m5) → zG X cX2_isFlown 4 "QuiverKinModel" "isFlown" 3 65 2 [(0, va_rf a0), (1, .int a1), (2, .int a2), (3, .int v4)] [] g m5 := by
    intro v4 m5 e
    exact hr3 _ e
  show zG X cX2_isFlown 4 "QuiverKinModel" "isFlown" 3 65 2 [(0, va_rf a0), (1, .int a1), (2, .int a2), (3, .int v4)] [] g m5
  refine g_iload_n dX2_isFlown_2 3 rfl ?_
  refine g_sipush (v := (144 : Int32)) dX2_isFlown_3 (by decide) ?_
  refine g_icmp_ge 22 dX2_isFlown_6 (by decide) (fun c => ?_) (fun c => ?_)
  · have h := zite_p h c
    refine zG.sub [0, 1, 2] rfl ?_
    have e := Option.some.inj h
    have e := hl3 _ e.symm
    exact K1 _ e.symm
  · have h := zite_n h c
    refine g_aload_n dX2_isFlown_9 0 rfl ?_
    refine gf_r zfd_2_31 q1441  (fun _ h9 => h9) dX2_isFlown_10 h (fun r6 h => ?_)
    refine g_iload_n dX2_isFlown_13 3 rfl ?_
    refine g_iconst (v := (0 : Int32)) dX2_isFlown_14 (by decide) ?_
    refine g_zast dX2_isFlown_15 h (fun m7 h => ?_)
    refine g_iinc (v := (1 : Int32)) [(0, va_rf a0), (1, .int a1), (2, .int a2)] dX2_isFlown_16 3 rfl (by decide) (by decide) (zf_r (zf_i (zf_i (zf_i zf_0)))) rfl h (fun v8 h => ?_)
    refine g_goto 2 dX2_isFlown_19 (by decide) ?_
    refine zG.sub [1, 2, 3, 0] rfl ?_
    have e := Option.some.inj h
    exact K3 _ _ e.symm
/-! QuiverKinModel.flight -/
def f_X2_flight (g : zGd) (m : zMm) (a0 : Option Nat) (a1 : Int32) (a2 : Int32) (a3 : Int32) : Option (Int32 × zMm) :=
(f_X2_isFlight a1 a2).bind fun v1 =>
if v1 = 0 then (some (((-1 : Int32), m)))
else ((f_X2_isIn a3 (0 : Int32) (3 : Int32)).bind fun v2 =>
if v2 = 0 then (some (((-1 : Int32), m)))
else ((zrc g 2 a0 (f_X2_isFlown g m a0 a1 a2)).bind fun (v3, m4) =>
if v3 = 0 then (some (((-1 : Int32), m4)))
else (if a3 = 0 then ((zgi g m4 2 32 a0).bind fun v8 =>
some ((v8, m4)))
else (if a3 = (1 : Int32) then ((zgi g m4 2 33 a0).bind fun v7 =>
some ((v7, m4)))
else (if a3 = (2 : Int32) then ((zgi g m4 2 34 a0).bind fun v6 =>
some ((v6, m4)))
else ((zgi g m4 2 35 a0).bind fun v5 =>
some ((v5, m4))))))))
theorem hy_X2_flight : zHy yX2_flight 3 := ⟨by decide, by decide, by decide +kernel⟩
set_option maxHeartbeats 4000000 in
theorem ok_X2_flight (l : Launch) (g : zGd) (m : zMm) (a0 : Option Nat) (a1 : Int32) (a2 : Int32) (a3 : Int32) (z0 : Int32) (m0 : zMm) (h : f_X2_flight g m a0 a1 a2 a3 = some (z0, m0)) : zCT l yX2_flight cX2_flight 4 (some .int) 4 88 g m [va_rf a0, .int a1, .int a2, .int a3] (some (.int z0)) g m0 := by
  refine zCT.of (own := "QuiverKinModel") (mn := "flight") (by decide +kernel) rfl rfl (zla_r (zla_i (zla_i (zla_i zla_0)))) (zls_r (zls_i (zls_i (zls_i zls_0)))) (by decide) (fun X hxl hxg hxf hxt hxr hxn => ?_)
  have Kret : ∀ (y0 : Int32) (y1 : zMm), (y0, y1) = (z0, m0) → zRe X g y1 (some (.int y0)) := by
    intro y0 y1 e; cases e; exact ⟨hxf, hxr, hxn⟩
  subst hxl
  show zG X cX2_flight 4 "QuiverKinModel" "flight" 4 88 0 [(0, va_rf a0), (1, .int a1), (2, .int a2), (3, .int a3)] [] g m
  unfold f_X2_flight at h
  refine g_iload_n dX2_flight_0 1 rfl ?_
  refine g_iload_n dX2_flight_1 2 rfl ?_
  refine g_cSRv (rv := fun x : Int32 => Value.int x) [.int a1, .int a2] (fun x0 e0 => ok_X2_isFlight (xl X) g m a1 a2 x0 e0) (lw_S q1942 q1943 q126 q1944) hy_X2_isFlight rfl ⟨by decide, by decide⟩ rfl zc_0 (by decide) dX2_flight_2 h (fun v1 h => ?_)
  refine g_if_eq 26 dX2_flight_5 (by decide) (fun c => ?_) (fun c => ?_)
  · have h := zite_p h c
    refine g_iconst (v := (-1 : Int32)) dX2_flight_26 (by decide) ?_
    refine g_iret dX2_flight_27 hxt ?_
    have e := Option.some.inj h
    exact Kret _ _ e
  · have h := zite_n h c
    refine g_iload_n dX2_flight_8 3 rfl ?_
    refine g_iconst (v := (0 : Int32)) dX2_flight_9 (by decide) ?_
    refine g_iconst (v := (3 : Int32)) dX2_flight_10 (by decide) ?_
    refine g_cSRv (rv := fun x : Int32 => Value.int x) [.int a3, .int (0 : Int32), .int (3 : Int32)] (fun x0 e0 => ok_X2_isIn (xl X) g m a3 (0 : Int32) (3 : Int32) x0 e0) (lw_S q1534 q1535 q126 q1536) hy_X2_isIn rfl ⟨by decide, by decide⟩ rfl zc_0 (by decide) dX2_flight_11 h (fun v2 h => ?_)
    refine g_if_eq 26 dX2_flight_14 (by decide) (fun c => ?_) (fun c => ?_)
    · have h := zite_p h c
      refine g_iconst (v := (-1 : Int32)) dX2_flight_26 (by decide) ?_
      refine g_iret dX2_flight_27 hxt ?_
      have e := Option.some.inj h
      exact Kret _ _ e
    · have h := zite_n h c
      refine g_aload_n dX2_flight_17 0 rfl ?_
      refine g_iload_n dX2_flight_18 1 rfl ?_
      refine g_iload_n dX2_flight_19 2 rfl ?_
      refine g_cVMv (rv := fun x : Int32 => Value.int x) [.int a1, .int a2] (fun x0 m0 e0 => ok_X2_isFlown (xl X) g m a0 a1 a2 x0 m0 e0) zc2 (by decide) (lw_V q1945 q1947 qs111 q126 q1948) rfl hy_X2_isFlown rfl ⟨by decide, by decide⟩ rfl zc_0 (by decide) dX2_flight_20 h (fun v3 m4 h => ?_)
      refine g_if_ne 28 dX2_flight_23 (by decide) (fun c => ?_) (fun c => ?_)
      · have h := zite_n h c
        refine g_iload_n dX2_flight_28 3 rfl ?_
        refine g_if_ne 39 dX2_flight_29 (by decide) (fun c => ?_) (fun c => ?_)
        · have h := zite_n h c
          refine g_iload_n dX2_flight_39 3 rfl ?_
          refine g_iconst (v := (1 : Int32)) dX2_flight_40 (by decide) ?_
          refine g_icmp_ne 51 dX2_flight_41 (by decide) (fun c => ?_) (fun c => ?_)
          · have h := zite_n h c
            refine g_iload_n dX2_flight_51 3 rfl ?_
            refine g_iconst (v := (2 : Int32)) dX2_flight_52 (by decide) ?_
            refine g_icmp_ne 63 dX2_flight_53 (by decide) (fun c => ?_) (fun c => ?_)
            · have h := zite_n h c
              refine g_aload_n dX2_flight_63 0 rfl ?_
              refine gf_i zfd_2_35 q1445  (fun _ h9 => h9) dX2_flight_64 h (fun v5 h => ?_)
              refine g_iret dX2_flight_67 hxt ?_
              have e := Option.some.inj h
              exact Kret _ _ e
            · have h := zite_p h c
              refine g_aload_n dX2_flight_56 0 rfl ?_
              refine gf_i zfd_2_34 q1444  (fun _ h9 => h9) dX2_flight_57 h (fun v6 h => ?_)
              refine g_goto 67 dX2_flight_60 (by decide) ?_
              refine g_iret dX2_flight_67 hxt ?_
              have e := Option.some.inj h
              exact Kret _ _ e
          · have h := zite_p h c
            refine g_aload_n dX2_flight_44 0 rfl ?_
            refine gf_i zfd_2_33 q1443  (fun _ h9 => h9) dX2_flight_45 h (fun v7 h => ?_)
            refine g_goto 67 dX2_flight_48 (by decide) ?_
            refine g_iret dX2_flight_67 hxt ?_
            have e := Option.some.inj h
            exact Kret _ _ e
        · have h := zite_p h c
          refine g_aload_n dX2_flight_32 0 rfl ?_
          refine gf_i zfd_2_32 q1442  (fun _ h9 => h9) dX2_flight_33 h (fun v8 h => ?_)
          refine g_goto 67 dX2_flight_36 (by decide) ?_
          refine g_iret dX2_flight_67 hxt ?_
          have e := Option.some.inj h
          exact Kret _ _ e
      · have h := zite_p h c
        refine g_iconst (v := (-1 : Int32)) dX2_flight_26 (by decide) ?_
        refine g_iret dX2_flight_27 hxt ?_
        have e := Option.some.inj h
        exact Kret _ _ e
/-! QuiverKinModel.isInwards -/
def f_X2_isInwards (a0 : Int32) (a1 : Int32) : Option (Int32) :=
if a1 = 0 then (if (a0 / (6 : Int32)) = (5 : Int32) then (some ((1 : Int32)))
else (some ((0 : Int32))))
else (if a1 = (1 : Int32) then (if (zrem a0 (6 : Int32)) = 0 then (some ((1 : Int32)))
else (some ((0 : Int32))))
else (if a1 = (2 : Int32) then (if (a0 / (6 : Int32)) = 0 then (some ((1 : Int32)))
else (some ((0 : Int32))))
else (if (zrem a0 (6 : Int32)) = (5 : Int32) then (some ((1 : Int32)))
else (some ((0 : Int32))))))
theorem hy_X2_isInwards : zHy yX2_isInwards 2 := ⟨by decide, by decide, by decide +kernel⟩
set_option maxHeartbeats 4000000 in
theorem ok_X2_isInwards (l : Launch) (g : zGd) (m : zMm) (a0 : Int32) (a1 : Int32) (z0 : Int32) (h : f_X2_isInwards a0 a1 = some z0) : zCT l yX2_isInwards cX2_isInwards 2 (some .boolean) 1 20 g m [.int a0, .int a1] (some (.int z0)) g m := by
  refine zCT.of (own := "QuiverKinModel") (mn := "isInwards") (by decide +kernel) rfl rfl (zla_i (zla_i zla_0)) (zls_i (zls_i zls_0)) (by decide) (fun X hxl hxg hxf hxt hxr hxn => ?_)
  have Kret : ∀ (y0 : Int32), y0 = z0 → zRe X g m (some (.int y0)) := by
    intro y0 e; cases e; exact ⟨hxf, hxr, hxn⟩
  subst hxl
  show zG X cX2_isInwards 2 "QuiverKinModel" "isInwards" 1 20 0 [(0, .int a0), (1, .int a1)] [] g m
  unfold f_X2_isInwards at h
  refine g_iload_n dX2_isInwards_0 1 rfl ?_
  refine g_if_ne 20 dX2_isInwards_1 (by decide) (fun c => ?_) (fun c => ?_)
  · have h := zite_n h c
    refine g_iload_n dX2_isInwards_20 1 rfl ?_
    refine g_iconst (v := (1 : Int32)) dX2_isInwards_21 (by decide) ?_
    refine g_icmp_ne 40 dX2_isInwards_22 (by decide) (fun c => ?_) (fun c => ?_)
    · have h := zite_n h c
      refine g_iload_n dX2_isInwards_40 1 rfl ?_
      refine g_iconst (v := (2 : Int32)) dX2_isInwards_41 (by decide) ?_
      refine g_icmp_ne 60 dX2_isInwards_42 (by decide) (fun c => ?_) (fun c => ?_)
      · have h := zite_n h c
        refine g_iload_n dX2_isInwards_60 0 rfl ?_
        refine g_bipush (v := (6 : Int32)) dX2_isInwards_61 (by decide) ?_
        refine g_iremC dX2_isInwards_63 (by decide) ?_
        refine g_iconst (v := (5 : Int32)) dX2_isInwards_64 (by decide) ?_
        refine g_icmp_ne 72 dX2_isInwards_65 (by decide) (fun c => ?_) (fun c => ?_)
        · have h := zite_n h c
          refine g_iconst (v := (0 : Int32)) dX2_isInwards_72 (by decide) ?_
          refine g_zret dX2_isInwards_73 hxt rfl ?_
          have e := Option.some.inj h
          exact Kret _ e
        · have h := zite_p h c
          refine g_iconst (v := (1 : Int32)) dX2_isInwards_68 (by decide) ?_
          refine g_goto 73 dX2_isInwards_69 (by decide) ?_
          refine g_zret dX2_isInwards_73 hxt rfl ?_
          have e := Option.some.inj h
          exact Kret _ e
      · have h := zite_p h c
        refine g_iload_n dX2_isInwards_45 0 rfl ?_
        refine g_bipush (v := (6 : Int32)) dX2_isInwards_46 (by decide) ?_
        refine g_idivC dX2_isInwards_48 (by decide) ?_
        refine g_if_ne 56 dX2_isInwards_49 (by decide) (fun c => ?_) (fun c => ?_)
        · have h := zite_n h c
          refine g_iconst (v := (0 : Int32)) dX2_isInwards_56 (by decide) ?_
          refine g_goto 73 dX2_isInwards_57 (by decide) ?_
          refine g_zret dX2_isInwards_73 hxt rfl ?_
          have e := Option.some.inj h
          exact Kret _ e
        · have h := zite_p h c
          refine g_iconst (v := (1 : Int32)) dX2_isInwards_52 (by decide) ?_
          refine g_goto 73 dX2_isInwards_53 (by decide) ?_
          refine g_zret dX2_isInwards_73 hxt rfl ?_
          have e := Option.some.inj h
          exact Kret _ e
    · have h := zite_p h c
      refine g_iload_n dX2_isInwards_25 0 rfl ?_
      refine g_bipush (v := (6 : Int32)) dX2_isInwards_26 (by decide) ?_
      refine g_iremC dX2_isInwards_28 (by decide) ?_
      refine g_if_ne 36 dX2_isInwards_29 (by decide) (fun c => ?_) (fun c => ?_)
      · have h := zite_n h c
        refine g_iconst (v := (0 : Int32)) dX2_isInwards_36 (by decide) ?_
        refine g_goto 73 dX2_isInwards_37 (by decide) ?_
        refine g_zret dX2_isInwards_73 hxt rfl ?_
        have e := Option.some.inj h
        exact Kret _ e
      · have h := zite_p h c
        refine g_iconst (v := (1 : Int32)) dX2_isInwards_32 (by decide) ?_
        refine g_goto 73 dX2_isInwards_33 (by decide) ?_
        refine g_zret dX2_isInwards_73 hxt rfl ?_
        have e := Option.some.inj h
        exact Kret _ e
  · have h := zite_p h c
    refine g_iload_n dX2_isInwards_4 0 rfl ?_
    refine g_bipush (v := (6 : Int32)) dX2_isInwards_5 (by decide) ?_
    refine g_idivC dX2_isInwards_7 (by decide) ?_
    refine g_iconst (v := (5 : Int32)) dX2_isInwards_8 (by decide) ?_
    refine g_icmp_ne 16 dX2_isInwards_9 (by decide) (fun c => ?_) (fun c => ?_)
    · have h := zite_n h c
      refine g_iconst (v := (0 : Int32)) dX2_isInwards_16 (by decide) ?_
      refine g_goto 73 dX2_isInwards_17 (by decide) ?_
      refine g_zret dX2_isInwards_73 hxt rfl ?_
      have e := Option.some.inj h
      exact Kret _ e
    · have h := zite_p h c
      refine g_iconst (v := (1 : Int32)) dX2_isInwards_12 (by decide) ?_
      refine g_goto 73 dX2_isInwards_13 (by decide) ?_
      refine g_zret dX2_isInwards_73 hxt rfl ?_
      have e := Option.some.inj h
      exact Kret _ e
/-! QuiverKinModel.comes -/
def b_X2_comes_12 (g : zGd) (a0 : Option Nat) (a1 : Int32) (a2 : Int32) : Int32 × zMm → Option ((((Int32 × zMm) ⊕ (zMm))) ⊕ (Int32 × zMm)) := fun (v5, m6) =>
if (144 : Int32) ≤ v5 then (some (.inl (.inr m6)))
else ((f_X2_isInwards (zrem v5 (36 : Int32)) (v5 / (36 : Int32))).bind fun v7 =>
if v7 = 0 then (zlt (v5 + (1 : Int32)) fun v8 =>
some (.inr (v8, m6)))
else ((zrc g 2 a0 (f_X2_isFlown g m6 a0 (zrem v5 (36 : Int32)) (v5 / (36 : Int32)))).bind fun (v9, m10) =>
if v9 = 0 then (zlt (v5 + (1 : Int32)) fun v11 =>
some (.inr (v11, m10)))
else ((zgi g m10 2 33 a0).bind fun v12 =>
if v12 = a1 then ((zgi g m10 2 35 a0).bind fun v14 =>
if v14 = a2 then (some (.inl (.inl ((v5, m10)))))
else (zlt (v5 + (1 : Int32)) fun v15 =>
some (.inr (v15, m10))))
else (zlt (v5 + (1 : Int32)) fun v13 =>
some (.inr (v13, m10))))))
def f_X2_comes (g : zGd) (m : zMm) (a0 : Option Nat) (a1 : Int32) (a2 : Int32) : Option (Int32 × zMm) :=
(f_X2_isFlight a1 a2).bind fun v1 =>
if v1 = 0 then (some (((-1 : Int32), m)))
else (zEx (σ := zMm) (zLoop (b_X2_comes_12 g a0 a1 a2) zFuel ((0 : Int32), m)) fun m3 =>
some (((-1 : Int32), m3)))
theorem hy_X2_comes : zHy yX2_comes 2 := ⟨by decide, by decide, by decide +kernel⟩
set_option maxHeartbeats 4000000 in
theorem ok_X2_comes (l : Launch) (g : zGd) (m : zMm) (a0 : Option Nat) (a1 : Int32) (a2 : Int32) (z0 : Int32) (m0 : zMm) (h : f_X2_comes g m a0 a1 a2 = some (z0, m0)) : zCT l yX2_comes cX2_comes 4 (some .int) 4 88 g m [va_rf a0, .int a1, .int a2] (some (.int z0)) g m0 := by
  refine zCT.of (own := "QuiverKinModel") (mn := "comes") (by decide +kernel) rfl rfl (zla_r (zla_i (zla_i zla_0))) (zls_r (zls_i (zls_i zls_0))) (by decide) (fun X hxl hxg hxf hxt hxr hxn => ?_)
  have Kret : ∀ (y0 : Int32) (y1 : zMm), (y0, y1) = (z0, m0) → zRe X g y1 (some (.int y0)) := by
    intro y0 y1 e; cases e; exact ⟨hxf, hxr, hxn⟩
  subst hxl
  show zG X cX2_comes 4 "QuiverKinModel" "comes" 4 88 0 [(0, va_rf a0), (1, .int a1), (2, .int a2)] [] g m
  unfold f_X2_comes at h
  refine g_iload_n dX2_comes_0 1 rfl ?_
  refine g_iload_n dX2_comes_1 2 rfl ?_
  refine g_cSRv (rv := fun x : Int32 => Value.int x) [.int a1, .int a2] (fun x0 e0 => ok_X2_isFlight (xl X) g m a1 a2 x0 e0) (lw_S q1942 q1943 q126 q1944) hy_X2_isFlight rfl ⟨by decide, by decide⟩ rfl zc_0 (by decide) dX2_comes_2 h (fun v1 h => ?_)
  refine g_if_ne 10 dX2_comes_5 (by decide) (fun c => ?_) (fun c => ?_)
  · have h := zite_n h c
    refine g_iconst (v := (0 : Int32)) dX2_comes_10 (by decide) ?_
    refine g_istore_n [(3, .int (0 : Int32)), (0, va_rf a0), (1, .int a1), (2, .int a2)] dX2_comes_11 (by decide) (zf_r (zf_i (zf_i zf_0))) rfl ?_
    obtain ⟨o2, h1, hl2, hr2⟩ := zEx_e h
    have K2 : ∀ (m3 : zMm), o2 = .inr m3 → zG X cX2_comes 4 "QuiverKinModel" "comes" 4 88 72 [] [] g m3 := by
      intro m3 e
      have h := hr2 _ e
      refine g_iconst (v := (-1 : Int32)) dX2_comes_72 (by decide) ?_
      refine g_iret dX2_comes_73 hxt ?_
      have e := Option.some.inj h
      exact Kret _ _ e
    refine zG.sub [1, 2, 3, 0] rfl ?_
    refine zLoop_ok (Φ := (fun (q : Int32 × zMm) => match q with | (v5, m6) => zG X cX2_comes 4 "QuiverKinModel" "comes" 4 88 12 [(0, va_rf a0), (1, .int a1), (2, .int a2), (3, .int v5)] [] g m6)) o2 ?_ zFuel _ h1
    rintro ⟨v5, m6⟩ x4 h hl4 hr4
    unfold b_X2_comes_12 at h
    have K4 : ∀ (v5 : Int32) (m6 : zMm), x4 = .inr (v5, m6) → zG X cX2_comes 4 "QuiverKinModel" "comes" 4 88 12 [(0, va_rf a0), (1, .int a1), (2, .int a2), (3, .int v5)] [] g m6 := by
      intro v5 m6 e
      exact hr4 _ e
    show zG X cX2_comes 4 "QuiverKinModel" "comes" 4 88 12 [(0, va_rf a0), (1, .int a1), (2, .int a2), (3, .int v5)] [] g m6
    refine g_iload_n dX2_comes_12 3 rfl ?_
    refine g_sipush (v := (144 : Int32)) dX2_comes_13 (by decide) ?_
    refine g_icmp_ge 72 dX2_comes_16 (by decide) (fun c => ?_) (fun c => ?_)
    · have h := zite_p h c
      refine zG.sub [] rfl ?_
      have e := Option.some.inj h
      have e := hl4 _ e.symm
      exact K2 _ e.symm
    · have h := zite_n h c
      refine g_iload_n dX2_comes_19 3 rfl ?_
      refine g_bipush (v := (36 : Int32)) dX2_comes_20 (by decide) ?_
      refine g_iremC dX2_comes_22 (by decide) ?_
      refine g_iload_n dX2_comes_23 3 rfl ?_
      refine g_bipush (v := (36 : Int32)) dX2_comes_24 (by decide) ?_
      refine g_idivC dX2_comes_26 (by decide) ?_
      refine g_cSRv (rv := fun x : Int32 => Value.int x) [.int (zrem v5 (36 : Int32)), .int (v5 / (36 : Int32))] (fun x0 e0 => ok_X2_isInwards (xl X) g m6 (zrem v5 (36 : Int32)) (v5 / (36 : Int32)) x0 e0) (lw_S q1959 q1960 q126 q1961) hy_X2_isInwards rfl ⟨by decide, by decide⟩ rfl zc_0 (by decide) dX2_comes_27 h (fun v7 h => ?_)
      refine g_if_eq 66 dX2_comes_30 (by decide) (fun c => ?_) (fun c => ?_)
      · have h := zite_p h c
        refine g_iinc (v := (1 : Int32)) [(0, va_rf a0), (1, .int a1), (2, .int a2)] dX2_comes_66 3 rfl (by decide) (by decide) (zf_r (zf_i (zf_i (zf_i zf_0)))) rfl h (fun v8 h => ?_)
        refine g_goto 12 dX2_comes_69 (by decide) ?_
        refine zG.sub [1, 2, 3, 0] rfl ?_
        have e := Option.some.inj h
        exact K4 _ _ e.symm
      · have h := zite_n h c
        refine g_aload_n dX2_comes_33 0 rfl ?_
        refine g_iload_n dX2_comes_34 3 rfl ?_
        refine g_bipush (v := (36 : Int32)) dX2_comes_35 (by decide) ?_
        refine g_iremC dX2_comes_37 (by decide) ?_
        refine g_iload_n dX2_comes_38 3 rfl ?_
        refine g_bipush (v := (36 : Int32)) dX2_comes_39 (by decide) ?_
        refine g_idivC dX2_comes_41 (by decide) ?_
        refine g_cVMv (rv := fun x : Int32 => Value.int x) [.int (zrem v5 (36 : Int32)), .int (v5 / (36 : Int32))] (fun x0 m0 e0 => ok_X2_isFlown (xl X) g m6 a0 (zrem v5 (36 : Int32)) (v5 / (36 : Int32)) x0 m0 e0) zc2 (by decide) (lw_V q1945 q1947 qs111 q126 q1948) rfl hy_X2_isFlown rfl ⟨by decide, by decide⟩ rfl zc_0 (by decide) dX2_comes_42 h (fun v9 m10 h => ?_)
        refine g_if_eq 66 dX2_comes_45 (by decide) (fun c => ?_) (fun c => ?_)
        · have h := zite_p h c
          refine g_iinc (v := (1 : Int32)) [(0, va_rf a0), (1, .int a1), (2, .int a2)] dX2_comes_66 3 rfl (by decide) (by decide) (zf_r (zf_i (zf_i (zf_i zf_0)))) rfl h (fun v11 h => ?_)
          refine g_goto 12 dX2_comes_69 (by decide) ?_
          refine zG.sub [1, 2, 3, 0] rfl ?_
          have e := Option.some.inj h
          exact K4 _ _ e.symm
        · have h := zite_n h c
          refine g_aload_n dX2_comes_48 0 rfl ?_
          refine gf_i zfd_2_33 q1443  (fun _ h9 => h9) dX2_comes_49 h (fun v12 h => ?_)
          refine g_iload_n dX2_comes_52 1 rfl ?_
          refine g_icmp_ne 66 dX2_comes_53 (by decide) (fun c => ?_) (fun c => ?_)
          · have h := zite_n h c
            refine g_iinc (v := (1 : Int32)) [(0, va_rf a0), (1, .int a1), (2, .int a2)] dX2_comes_66 3 rfl (by decide) (by decide) (zf_r (zf_i (zf_i (zf_i zf_0)))) rfl h (fun v13 h => ?_)
            refine g_goto 12 dX2_comes_69 (by decide) ?_
            refine zG.sub [1, 2, 3, 0] rfl ?_
            have e := Option.some.inj h
            exact K4 _ _ e.symm
          · have h := zite_p h c
            refine g_aload_n dX2_comes_56 0 rfl ?_
            refine gf_i zfd_2_35 q1445  (fun _ h9 => h9) dX2_comes_57 h (fun v14 h => ?_)
            refine g_iload_n dX2_comes_60 2 rfl ?_
            refine g_icmp_ne 66 dX2_comes_61 (by decide) (fun c => ?_) (fun c => ?_)
            · have h := zite_n h c
              refine g_iinc (v := (1 : Int32)) [(0, va_rf a0), (1, .int a1), (2, .int a2)] dX2_comes_66 3 rfl (by decide) (by decide) (zf_r (zf_i (zf_i (zf_i zf_0)))) rfl h (fun v15 h => ?_)
              refine g_goto 12 dX2_comes_69 (by decide) ?_
              refine zG.sub [1, 2, 3, 0] rfl ?_
              have e := Option.some.inj h
              exact K4 _ _ e.symm
            · have h := zite_p h c
              refine g_iload_n dX2_comes_64 3 rfl ?_
              refine g_iret dX2_comes_65 hxt ?_
              have e := Option.some.inj h
              have e := hl4 _ e.symm
              have e := hl2 _ e.symm
              exact Kret _ _ e
  · have h := zite_p h c
    refine g_iconst (v := (-1 : Int32)) dX2_comes_8 (by decide) ?_
    refine g_iret dX2_comes_9 hxt ?_
    have e := Option.some.inj h
    exact Kret _ _ e
/-! QuiverKinModel.isRow -/
def f_X2_isRow (a0 : Int32) : Option (Int32) :=
(f_X2_isIn a0 (0 : Int32) (124 : Int32)).bind fun v1 =>
(zbo v1).bind fun z =>
some (z)
theorem hy_X2_isRow : zHy yX2_isRow 1 := ⟨by decide, by decide, by decide +kernel⟩
set_option maxHeartbeats 4000000 in
theorem ok_X2_isRow (l : Launch) (g : zGd) (m : zMm) (a0 : Int32) (z0 : Int32) (h : f_X2_isRow a0 = some z0) : zCT l yX2_isRow cX2_isRow 1 (some .boolean) 2 42 g m [.int a0] (some (.int z0)) g m := by
  refine zCT.of (own := "QuiverKinModel") (mn := "isRow") (by decide +kernel) rfl rfl (zla_i zla_0) (zls_i zls_0) (by decide) (fun X hxl hxg hxf hxt hxr hxn => ?_)
  have Kret : ∀ (y0 : Int32), y0 = z0 → zRe X g m (some (.int y0)) := by
    intro y0 e; cases e; exact ⟨hxf, hxr, hxn⟩
  subst hxl
  show zG X cX2_isRow 1 "QuiverKinModel" "isRow" 2 42 0 [(0, .int a0)] [] g m
  unfold f_X2_isRow at h
  refine g_iload_n dX2_isRow_0 0 rfl ?_
  refine g_iconst (v := (0 : Int32)) dX2_isRow_1 (by decide) ?_
  refine g_bipush (v := (124 : Int32)) dX2_isRow_2 (by decide) ?_
  refine g_cSRv (rv := fun x : Int32 => Value.int x) [.int a0, .int (0 : Int32), .int (124 : Int32)] (fun x0 e0 => ok_X2_isIn (xl X) g m a0 (0 : Int32) (124 : Int32) x0 e0) (lw_S q1534 q1535 q126 q1536) hy_X2_isIn rfl ⟨by decide, by decide⟩ rfl zc_0 (by decide) dX2_isRow_4 h (fun v1 h => ?_)
  obtain ⟨hn, h⟩ := zbo_e h
  refine g_zret dX2_isRow_7 hxt hn ?_
  have e := Option.some.inj h
  exact Kret _ e
/-! QuiverKinModel.guess -/
def f_X2_guess (g : zGd) (m : zMm) (a0 : Option Nat) (a1 : Int32) (a2 : Int32) (a3 : Int32) : Option (Int32 × zMm) :=
if a1 = (-1 : Int32) then ((zgr g m 2 0 a0).bind fun r20 =>
(zast 101 g m r20 (4 : Int32) (0 : Int32)).bind fun m21 =>
some (((0 : Int32), m21)))
else ((f_X2_isRow a1).bind fun v1 =>
if v1 = 0 then (some (((-2 : Int32), m)))
else ((f_X2_isIn a2 (0 : Int32) (3 : Int32)).bind fun v2 =>
if v2 = 0 then (some (((-2 : Int32), m)))
else ((f_X2_isIn a3 (0 : Int32) ((3 : Int32) - a2)).bind fun v3 =>
if v3 = 0 then (some (((-2 : Int32), m)))
else ((zgr g m 2 0 a0).bind fun r4 =>
(zald 101 g m r4 (4 : Int32)).bind fun v5 =>
if v5 = (6 : Int32) then (some (((-2 : Int32), m)))
else ((zgr g m 2 0 a0).bind fun r6 =>
(zald 101 g m r6 (4 : Int32)).bind fun v7 =>
zlt ((107 : Int32) + ((3 : Int32) * v7)) fun v8 =>
(zgr g m 2 0 a0).bind fun r9 =>
(zast 101 g m r9 v8 a1).bind fun m10 =>
(zgr g m10 2 0 a0).bind fun r11 =>
(zast 101 g m10 r11 (v8 + (1 : Int32)) a2).bind fun m12 =>
(zgr g m12 2 0 a0).bind fun r13 =>
(zast 101 g m12 r13 (v8 + (2 : Int32)) a3).bind fun m14 =>
(zgr g m14 2 0 a0).bind fun r15 =>
(zald 101 g m14 r15 (4 : Int32)).bind fun v16 =>
(zast 101 g m14 r15 (4 : Int32) (v16 + (1 : Int32))).bind fun m17 =>
(zgr g m17 2 0 a0).bind fun r18 =>
(zald 101 g m17 r18 (4 : Int32)).bind fun v19 =>
some ((v19, m17)))))))
theorem hy_X2_guess : zHy yX2_guess 3 := ⟨by decide, by decide, by decide +kernel⟩
set_option maxHeartbeats 4000000 in
theorem ok_X2_guess (l : Launch) (g : zGd) (m : zMm) (a0 : Option Nat) (a1 : Int32) (a2 : Int32) (a3 : Int32) (z0 : Int32) (m0 : zMm) (h : f_X2_guess g m a0 a1 a2 a3 = some (z0, m0)) : zCT l yX2_guess cX2_guess 5 (some .int) 3 62 g m [va_rf a0, .int a1, .int a2, .int a3] (some (.int z0)) g m0 := by
  refine zCT.of (own := "QuiverKinModel") (mn := "guess") (by decide +kernel) rfl rfl (zla_r (zla_i (zla_i (zla_i zla_0)))) (zls_r (zls_i (zls_i (zls_i zls_0)))) (by decide) (fun X hxl hxg hxf hxt hxr hxn => ?_)
  have Kret : ∀ (y0 : Int32) (y1 : zMm), (y0, y1) = (z0, m0) → zRe X g y1 (some (.int y0)) := by
    intro y0 y1 e; cases e; exact ⟨hxf, hxr, hxn⟩
  subst hxl
  show zG X cX2_guess 5 "QuiverKinModel" "guess" 3 62 0 [(0, va_rf a0), (1, .int a1), (2, .int a2), (3, .int a3)] [] g m
  unfold f_X2_guess at h
  refine g_iload_n dX2_guess_0 1 rfl ?_
  refine g_iconst (v := (-1 : Int32)) dX2_guess_1 (by decide) ?_
  refine g_icmp_ne 14 dX2_guess_2 (by decide) (fun c => ?_) (fun c => ?_)
  · have h := zite_n h c
    refine g_iload_n dX2_guess_14 1 rfl ?_
    refine g_cSRv (rv := fun x : Int32 => Value.int x) [.int a1] (fun x0 e0 => ok_X2_isRow (xl X) g m a1 x0 e0) (lw_S q1966 q1967 q126 q1968) hy_X2_isRow rfl ⟨by decide, by decide⟩ rfl zc_0 (by decide) dX2_guess_15 h (fun v1 h => ?_)
    refine g_if_eq 52 dX2_guess_18 (by decide) (fun c => ?_) (fun c => ?_)
    · have h := zite_p h c
      refine g_bipush (v := (-2 : Int32)) dX2_guess_52 (by decide) ?_
      refine g_iret dX2_guess_54 hxt ?_
      have e := Option.some.inj h
      exact Kret _ _ e
    · have h := zite_n h c
      refine g_iload_n dX2_guess_21 2 rfl ?_
      refine g_iconst (v := (0 : Int32)) dX2_guess_22 (by decide) ?_
      refine g_iconst (v := (3 : Int32)) dX2_guess_23 (by decide) ?_
      refine g_cSRv (rv := fun x : Int32 => Value.int x) [.int a2, .int (0 : Int32), .int (3 : Int32)] (fun x0 e0 => ok_X2_isIn (xl X) g m a2 (0 : Int32) (3 : Int32) x0 e0) (lw_S q1534 q1535 q126 q1536) hy_X2_isIn rfl ⟨by decide, by decide⟩ rfl zc_0 (by decide) dX2_guess_24 h (fun v2 h => ?_)
      refine g_if_eq 52 dX2_guess_27 (by decide) (fun c => ?_) (fun c => ?_)
      · have h := zite_p h c
        refine g_bipush (v := (-2 : Int32)) dX2_guess_52 (by decide) ?_
        refine g_iret dX2_guess_54 hxt ?_
        have e := Option.some.inj h
        exact Kret _ _ e
      · have h := zite_n h c
        refine g_iload_n dX2_guess_30 3 rfl ?_
        refine g_iconst (v := (0 : Int32)) dX2_guess_31 (by decide) ?_
        refine g_iconst (v := (3 : Int32)) dX2_guess_32 (by decide) ?_
        refine g_iload_n dX2_guess_33 2 rfl ?_
        refine g_isub dX2_guess_34 ?_
        refine g_cSRv (rv := fun x : Int32 => Value.int x) [.int a3, .int (0 : Int32), .int ((3 : Int32) - a2)] (fun x0 e0 => ok_X2_isIn (xl X) g m a3 (0 : Int32) ((3 : Int32) - a2) x0 e0) (lw_S q1534 q1535 q126 q1536) hy_X2_isIn rfl ⟨by decide, by decide⟩ rfl zc_0 (by decide) dX2_guess_35 h (fun v3 h => ?_)
        refine g_if_eq 52 dX2_guess_38 (by decide) (fun c => ?_) (fun c => ?_)
        · have h := zite_p h c
          refine g_bipush (v := (-2 : Int32)) dX2_guess_52 (by decide) ?_
          refine g_iret dX2_guess_54 hxt ?_
          have e := Option.some.inj h
          exact Kret _ _ e
        · have h := zite_n h c
          refine g_aload_n dX2_guess_41 0 rfl ?_
          refine gf_r zfd_2_0 q1410  (fun _ h9 => h9) dX2_guess_42 h (fun r4 h => ?_)
          refine g_iconst (v := (4 : Int32)) dX2_guess_45 (by decide) ?_
          refine g_iald dX2_guess_46 h (fun v5 h => ?_)
          refine g_bipush (v := (6 : Int32)) dX2_guess_47 (by decide) ?_
          refine g_icmp_ne 55 dX2_guess_49 (by decide) (fun c => ?_) (fun c => ?_)
          · have h := zite_n h c
            refine g_bipush (v := (107 : Int32)) dX2_guess_55 (by decide) ?_
            refine g_iconst (v := (3 : Int32)) dX2_guess_57 (by decide) ?_
            refine g_aload_n dX2_guess_58 0 rfl ?_
            refine gf_r zfd_2_0 q1410  (fun _ h9 => h9) dX2_guess_59 h (fun r6 h => ?_)
            refine g_iconst (v := (4 : Int32)) dX2_guess_62 (by decide) ?_
            refine g_iald dX2_guess_63 h (fun v7 h => ?_)
            refine g_imul dX2_guess_64 ?_
            refine g_iadd dX2_guess_65 ?_
            refine g_leti h (fun v8 h => ?_)
            refine g_istore [(4, .int v8), (0, va_rf a0), (1, .int a1), (2, .int a2), (3, .int a3)] dX2_guess_66 (by decide) (zf_r (zf_i (zf_i (zf_i zf_0)))) rfl ?_
            refine g_aload_n dX2_guess_68 1 rfl ?_
            refine gf_r zfd_2_0 q1410  (fun _ h9 => h9) dX2_guess_69 h (fun r9 h => ?_)
            refine g_iload dX2_guess_72 0 rfl ?_
            refine g_iload_n dX2_guess_74 2 rfl ?_
            refine g_iast dX2_guess_75 h (fun m10 h => ?_)
            refine g_aload_n dX2_guess_76 1 rfl ?_
            refine gf_r zfd_2_0 q1410  (fun _ h9 => h9) dX2_guess_77 h (fun r11 h => ?_)
            refine g_iload dX2_guess_80 0 rfl ?_
            refine g_iconst (v := (1 : Int32)) dX2_guess_82 (by decide) ?_
            refine g_iadd dX2_guess_83 ?_
            refine g_iload_n dX2_guess_84 3 rfl ?_
            refine g_iast dX2_guess_85 h (fun m12 h => ?_)
            refine g_aload_n dX2_guess_86 1 rfl ?_
            refine gf_r zfd_2_0 q1410  (fun _ h9 => h9) dX2_guess_87 h (fun r13 h => ?_)
            refine g_iload dX2_guess_90 0 rfl ?_
            refine g_iconst (v := (2 : Int32)) dX2_guess_92 (by decide) ?_
            refine g_iadd dX2_guess_93 ?_
            refine g_iload_n dX2_guess_94 4 rfl ?_
            refine g_iast dX2_guess_95 h (fun m14 h => ?_)
            refine g_aload_n dX2_guess_96 1 rfl ?_
            refine gf_r zfd_2_0 q1410  (fun _ h9 => h9) dX2_guess_97 h (fun r15 h => ?_)
            refine g_iconst (v := (4 : Int32)) dX2_guess_100 (by decide) ?_
            refine g_dup2 dX2_guess_101 rfl (zcat_r _) ?_
            refine g_iald dX2_guess_102 h (fun v16 h => ?_)
            refine g_iconst (v := (1 : Int32)) dX2_guess_103 (by decide) ?_
            refine g_iadd dX2_guess_104 ?_
            refine g_iast dX2_guess_105 h (fun m17 h => ?_)
            refine g_aload_n dX2_guess_106 1 rfl ?_
            refine gf_r zfd_2_0 q1410  (fun _ h9 => h9) dX2_guess_107 h (fun r18 h => ?_)
            refine g_iconst (v := (4 : Int32)) dX2_guess_110 (by decide) ?_
            refine g_iald dX2_guess_111 h (fun v19 h => ?_)
            refine g_iret dX2_guess_112 hxt ?_
            have e := Option.some.inj h
            exact Kret _ _ e
          · have h := zite_p h c
            refine g_bipush (v := (-2 : Int32)) dX2_guess_52 (by decide) ?_
            refine g_iret dX2_guess_54 hxt ?_
            have e := Option.some.inj h
            exact Kret _ _ e
  · have h := zite_p h c
    refine g_aload_n dX2_guess_5 0 rfl ?_
    refine gf_r zfd_2_0 q1410  (fun _ h9 => h9) dX2_guess_6 h (fun r20 h => ?_)
    refine g_iconst (v := (4 : Int32)) dX2_guess_9 (by decide) ?_
    refine g_iconst (v := (0 : Int32)) dX2_guess_10 (by decide) ?_
    refine g_iast dX2_guess_11 h (fun m21 h => ?_)
    refine g_iconst (v := (0 : Int32)) dX2_guess_12 (by decide) ?_
    refine g_iret dX2_guess_13 hxt ?_
    have e := Option.some.inj h
    exact Kret _ _ e
