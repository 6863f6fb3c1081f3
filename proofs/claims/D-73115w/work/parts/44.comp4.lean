/-! methods (printed by gen/run2.py) -/
set_option maxRecDepth 100000
/-! QuiverKin$Doing.b -/
def f_X16_b (g : zGd) (m : zMm) (a0 : Option Nat) : Option (Int32) :=
(zgi g m 16 2 a0).bind fun v1 =>
some (v1)
theorem hy_X16_b : zHy yX16_b 0 := ⟨by decide, by decide, by decide +kernel⟩
set_option maxHeartbeats 4000000 in
theorem ok_X16_b (l : Launch) (g : zGd) (m : zMm) (a0 : Option Nat) (z0 : Int32) (h : f_X16_b g m a0 = some z0) : zCT l yX16_b cX16_b 1 (some .int) 1 20 g m [va_rf a0] (some (.int z0)) g m := by
  refine zCT.of (own := "QuiverKin$Doing") (mn := "b") (by decide +kernel) rfl rfl (zla_r zla_0) (zls_r zls_0) (by decide) (fun X hxl hxg hxf hxt hxr hxn => ?_)
  have Kret : ∀ (y0 : Int32), y0 = z0 → zRe X g m (some (.int y0)) := by
    intro y0 e; cases e; exact ⟨hxf, hxr, hxn⟩
  subst hxl
  show zG X cX16_b 1 "QuiverKin$Doing" "b" 1 20 0 [(0, va_rf a0)] [] g m
  unfold f_X16_b at h
  refine g_aload_n dX16_b_0 0 rfl ?_
  refine gf_i zfd_16_2 q862  (fun _ h9 => h9) dX16_b_1 h (fun v1 h => ?_)
  refine g_iret dX16_b_4 hxt ?_
  have e := Option.some.inj h
  exact Kret _ e
/-! QuiverKin$Doing.sort -/
def f_X16_sort (g : zGd) (m : zMm) (a0 : Option Nat) : Option (Int32) :=
(zgi g m 16 0 a0).bind fun v1 =>
some (v1)
theorem hy_X16_sort : zHy yX16_sort 0 := ⟨by decide, by decide, by decide +kernel⟩
set_option maxHeartbeats 4000000 in
theorem ok_X16_sort (l : Launch) (g : zGd) (m : zMm) (a0 : Option Nat) (z0 : Int32) (h : f_X16_sort g m a0 = some z0) : zCT l yX16_sort cX16_sort 1 (some .int) 1 20 g m [va_rf a0] (some (.int z0)) g m := by
  refine zCT.of (own := "QuiverKin$Doing") (mn := "sort") (by decide +kernel) rfl rfl (zla_r zla_0) (zls_r zls_0) (by decide) (fun X hxl hxg hxf hxt hxr hxn => ?_)
  have Kret : ∀ (y0 : Int32), y0 = z0 → zRe X g m (some (.int y0)) := by
    intro y0 e; cases e; exact ⟨hxf, hxr, hxn⟩
  subst hxl
  show zG X cX16_sort 1 "QuiverKin$Doing" "sort" 1 20 0 [(0, va_rf a0)] [] g m
  unfold f_X16_sort at h
  refine g_aload_n dX16_sort_0 0 rfl ?_
  refine gf_i zfd_16_0 q860  (fun _ h9 => h9) dX16_sort_1 h (fun v1 h => ?_)
  refine g_iret dX16_sort_4 hxt ?_
  have e := Option.some.inj h
  exact Kret _ e
/-! QuiverKin.does -/
def f_X0_does (g : zGd) (m : zMm) (a0 : Option Nat) (a1 : Option Nat) : Option (Int32 × zMm) :=
(zrc g 16 a1 (f_X16_sort g m a1)).bind fun v1 =>
if v1 = (202 : Int32) then ((zrc g 16 a1 (f_X16_a g m a1)).bind fun v2 =>
(zrc g 16 a1 (f_X16_b g m a1)).bind fun v3 =>
(zrc g 0 a0 (f_X0_kin g m a0 v2 v3)).bind fun (v4, m5) =>
if v4 = (-1 : Int32) then (some (((0 : Int32), m5)))
else (some (((1 : Int32), m5))))
else if v1 = (203 : Int32) then ((zrc g 16 a1 (f_X16_a g m a1)).bind fun v6 =>
(zrc g 0 a0 (f_X0_reach g m a0 v6)).bind fun (v7, m8) =>
if v7 = (-1 : Int32) then (some (((0 : Int32), m8)))
else (some (((1 : Int32), m8))))
else if v1 = (204 : Int32) then ((zrc g 16 a1 (f_X16_a g m a1)).bind fun v9 =>
(zrc g 16 a1 (f_X16_b g m a1)).bind fun v10 =>
(zrc g 0 a0 (f_X0_down g m a0 v9 v10)).bind fun (v11, m12) =>
(zbo v11).bind fun z =>
some ((z, m12)))
else if v1 = (205 : Int32) then ((zrc g 16 a1 (f_X16_a g m a1)).bind fun v13 =>
(zrc g 0 a0 (f_X0_strap g m a0 v13)).bind fun (v14, m15) =>
(zbo v14).bind fun z =>
some ((z, m15)))
else if v1 = (206 : Int32) then ((zrc g 16 a1 (f_X16_a g m a1)).bind fun v16 =>
(zrc g 16 a1 (f_X16_b g m a1)).bind fun v17 =>
(zrc g 0 a0 (f_X0_swap g m a0 v16 v17)).bind fun (v18, m19) =>
(zbo v18).bind fun z =>
some ((z, m19)))
else ((zrc g 16 a1 (f_X16_a g m a1)).bind fun v20 =>
(zrc g 0 a0 (f_X0_passesAll g m a0 v20)).bind fun (v21, m22) =>
(zbo v21).bind fun z =>
some ((z, m22)))
theorem hy_X0_does : zHy yX0_does 1 := ⟨by decide, by decide, by decide +kernel⟩
set_option maxHeartbeats 4000000 in
theorem ok_X0_does (l : Launch) (g : zGd) (m : zMm) (a0 : Option Nat) (a1 : Option Nat) (z0 : Int32) (m0 : zMm) (h : f_X0_does g m a0 a1 = some (z0, m0)) : zCT l yX0_does cX0_does 2 (some .boolean) 285 6020 g m [va_rf a0, va_rf a1] (some (.int z0)) g m0 := by
  refine zCT.of (own := "QuiverKin") (mn := "does") (by decide +kernel) rfl rfl (zla_r (zla_r zla_0)) (zls_r (zls_r zls_0)) (by decide) (fun X hxl hxg hxf hxt hxr hxn => ?_)
  have Kret : ∀ (y0 : Int32) (y1 : zMm), (y0, y1) = (z0, m0) → zRe X g y1 (some (.int y0)) := by
    intro y0 y1 e; cases e; exact ⟨hxf, hxr, hxn⟩
  subst hxl
  show zG X cX0_does 2 "QuiverKin" "does" 285 6020 0 [(0, va_rf a0), (1, va_rf a1)] [] g m
  unfold f_X0_does at h
  refine g_aload_n dX0_does_0 1 rfl ?_
  refine g_cVRv (rv := fun x : Int32 => Value.int x) [] (fun x0 e0 => ok_X16_sort (xl X) g m a1 x0 e0) zc16 (by decide) (lw_V q1102 q1103 q1104 q157 q1105) rfl hy_X16_sort rfl ⟨by decide, by decide⟩ rfl zc_0 (by decide) dX0_does_1 h (fun v1 h => ?_)
  rcases Decidable.em (v1 = (202 : Int32)) with c | c202
  · have h := zite_p h c
    refine g_tsw (v := (202 : Int32)) (off := 36) 40 dX0_does_4 c (by decide) (by decide) (by decide) (by decide) ?_
    refine g_aload_n dX0_does_40 0 rfl ?_
    refine g_aload_n dX0_does_41 1 rfl ?_
    refine g_cVRv (rv := fun x : Int32 => Value.int x) [] (fun x0 e0 => ok_X16_a (xl X) g m a1 x0 e0) zc16 (by decide) (lw_V q1106 q1107 q1108 q157 q1109) rfl hy_X16_a rfl ⟨by decide, by decide⟩ rfl (zc_r zc_0) (by decide) dX0_does_42 h (fun v2 h => ?_)
    refine g_aload_n dX0_does_45 1 rfl ?_
    refine g_cVRv (rv := fun x : Int32 => Value.int x) [] (fun x0 e0 => ok_X16_b (xl X) g m a1 x0 e0) zc16 (by decide) (lw_V q1110 q1111 q1112 q157 q1113) rfl hy_X16_b rfl ⟨by decide, by decide⟩ rfl (zc_i (zc_r zc_0)) (by decide) dX0_does_46 h (fun v3 h => ?_)
    refine g_cVMv (rv := fun x : Int32 => Value.int x) [.int v2, .int v3] (fun x0 m0 e0 => ok_X0_kin (xl X) g m a0 v2 v3 x0 m0 e0) zc0 (by decide) (lw_V q1114 q305 q306 q123 q307) rfl hy_X0_kin rfl ⟨by decide, by decide⟩ rfl zc_0 (by decide) dX0_does_49 h (fun v4 m5 h => ?_)
    refine g_iconst (v := (-1 : Int32)) dX0_does_52 (by decide) ?_
    refine g_icmp_eq 60 dX0_does_53 (by decide) (fun c => ?_) (fun c => ?_)
    · have h := zite_p h c
      refine g_iconst (v := (0 : Int32)) dX0_does_60 (by decide) ?_
      refine g_zret dX0_does_61 hxt rfl ?_
      have e := Option.some.inj h
      exact Kret _ _ e
    · have h := zite_n h c
      refine g_iconst (v := (1 : Int32)) dX0_does_56 (by decide) ?_
      refine g_goto 61 dX0_does_57 (by decide) ?_
      refine g_zret dX0_does_61 hxt rfl ?_
      have e := Option.some.inj h
      exact Kret _ _ e
  have h := zite_n h c202
  rcases Decidable.em (v1 = (203 : Int32)) with c | c203
  · have h := zite_p h c
    refine g_tsw (v := (203 : Int32)) (off := 58) 62 dX0_does_4 c (by decide) (by decide) (by decide) (by decide) ?_
    refine g_aload_n dX0_does_62 0 rfl ?_
    refine g_aload_n dX0_does_63 1 rfl ?_
    refine g_cVRv (rv := fun x : Int32 => Value.int x) [] (fun x0 e0 => ok_X16_a (xl X) g m a1 x0 e0) zc16 (by decide) (lw_V q1106 q1107 q1108 q157 q1109) rfl hy_X16_a rfl ⟨by decide, by decide⟩ rfl (zc_r zc_0) (by decide) dX0_does_64 h (fun v6 h => ?_)
    refine g_cVMv (rv := fun x : Int32 => Value.int x) [.int v6] (fun x0 m0 e0 => ok_X0_reach (xl X) g m a0 v6 x0 m0 e0) zc0 (by decide) (lw_V q1115 q886 q887 q123 q888) rfl hy_X0_reach rfl ⟨by decide, by decide⟩ rfl zc_0 (by decide) dX0_does_67 h (fun v7 m8 h => ?_)
    refine g_iconst (v := (-1 : Int32)) dX0_does_70 (by decide) ?_
    refine g_icmp_eq 78 dX0_does_71 (by decide) (fun c => ?_) (fun c => ?_)
    · have h := zite_p h c
      refine g_iconst (v := (0 : Int32)) dX0_does_78 (by decide) ?_
      refine g_zret dX0_does_79 hxt rfl ?_
      have e := Option.some.inj h
      exact Kret _ _ e
    · have h := zite_n h c
      refine g_iconst (v := (1 : Int32)) dX0_does_74 (by decide) ?_
      refine g_goto 79 dX0_does_75 (by decide) ?_
      refine g_zret dX0_does_79 hxt rfl ?_
      have e := Option.some.inj h
      exact Kret _ _ e
  have h := zite_n h c203
  rcases Decidable.em (v1 = (204 : Int32)) with c | c204
  · have h := zite_p h c
    refine g_tsw (v := (204 : Int32)) (off := 76) 80 dX0_does_4 c (by decide) (by decide) (by decide) (by decide) ?_
    refine g_aload_n dX0_does_80 0 rfl ?_
    refine g_aload_n dX0_does_81 1 rfl ?_
    refine g_cVRv (rv := fun x : Int32 => Value.int x) [] (fun x0 e0 => ok_X16_a (xl X) g m a1 x0 e0) zc16 (by decide) (lw_V q1106 q1107 q1108 q157 q1109) rfl hy_X16_a rfl ⟨by decide, by decide⟩ rfl (zc_r zc_0) (by decide) dX0_does_82 h (fun v9 h => ?_)
    refine g_aload_n dX0_does_85 1 rfl ?_
    refine g_cVRv (rv := fun x : Int32 => Value.int x) [] (fun x0 e0 => ok_X16_b (xl X) g m a1 x0 e0) zc16 (by decide) (lw_V q1110 q1111 q1112 q157 q1113) rfl hy_X16_b rfl ⟨by decide, by decide⟩ rfl (zc_i (zc_r zc_0)) (by decide) dX0_does_86 h (fun v10 h => ?_)
    refine g_cVMv (rv := fun x : Int32 => Value.int x) [.int v9, .int v10] (fun x0 m0 e0 => ok_X0_down (xl X) g m a0 v9 v10 x0 m0 e0) zc0 (by decide) (lw_V q1116 q909 q910 q123 q911) rfl hy_X0_down rfl ⟨by decide, by decide⟩ rfl zc_0 (by decide) dX0_does_89 h (fun v11 m12 h => ?_)
    obtain ⟨hn, h⟩ := zbo_e h
    refine g_zret dX0_does_92 hxt hn ?_
    have e := Option.some.inj h
    exact Kret _ _ e
  have h := zite_n h c204
  rcases Decidable.em (v1 = (205 : Int32)) with c | c205
  · have h := zite_p h c
    refine g_tsw (v := (205 : Int32)) (off := 89) 93 dX0_does_4 c (by decide) (by decide) (by decide) (by decide) ?_
    refine g_aload_n dX0_does_93 0 rfl ?_
    refine g_aload_n dX0_does_94 1 rfl ?_
    refine g_cVRv (rv := fun x : Int32 => Value.int x) [] (fun x0 e0 => ok_X16_a (xl X) g m a1 x0 e0) zc16 (by decide) (lw_V q1106 q1107 q1108 q157 q1109) rfl hy_X16_a rfl ⟨by decide, by decide⟩ rfl (zc_r zc_0) (by decide) dX0_does_95 h (fun v13 h => ?_)
    refine g_cVMv (rv := fun x : Int32 => Value.int x) [.int v13] (fun x0 m0 e0 => ok_X0_strap (xl X) g m a0 v13 x0 m0 e0) zc0 (by decide) (lw_V q1117 q917 q918 q123 q919) rfl hy_X0_strap rfl ⟨by decide, by decide⟩ rfl zc_0 (by decide) dX0_does_98 h (fun v14 m15 h => ?_)
    obtain ⟨hn, h⟩ := zbo_e h
    refine g_zret dX0_does_101 hxt hn ?_
    have e := Option.some.inj h
    exact Kret _ _ e
  have h := zite_n h c205
  rcases Decidable.em (v1 = (206 : Int32)) with c | c206
  · have h := zite_p h c
    refine g_tsw (v := (206 : Int32)) (off := 98) 102 dX0_does_4 c (by decide) (by decide) (by decide) (by decide) ?_
    refine g_aload_n dX0_does_102 0 rfl ?_
    refine g_aload_n dX0_does_103 1 rfl ?_
    refine g_cVRv (rv := fun x : Int32 => Value.int x) [] (fun x0 e0 => ok_X16_a (xl X) g m a1 x0 e0) zc16 (by decide) (lw_V q1106 q1107 q1108 q157 q1109) rfl hy_X16_a rfl ⟨by decide, by decide⟩ rfl (zc_r zc_0) (by decide) dX0_does_104 h (fun v16 h => ?_)
    refine g_aload_n dX0_does_107 1 rfl ?_
    refine g_cVRv (rv := fun x : Int32 => Value.int x) [] (fun x0 e0 => ok_X16_b (xl X) g m a1 x0 e0) zc16 (by decide) (lw_V q1110 q1111 q1112 q157 q1113) rfl hy_X16_b rfl ⟨by decide, by decide⟩ rfl (zc_i (zc_r zc_0)) (by decide) dX0_does_108 h (fun v17 h => ?_)
    refine g_cVMv (rv := fun x : Int32 => Value.int x) [.int v16, .int v17] (fun x0 m0 e0 => ok_X0_swap (xl X) g m a0 v16 v17 x0 m0 e0) zc0 (by decide) (lw_V q1118 q921 q922 q123 q923) rfl hy_X0_swap rfl ⟨by decide, by decide⟩ rfl zc_0 (by decide) dX0_does_111 h (fun v18 m19 h => ?_)
    obtain ⟨hn, h⟩ := zbo_e h
    refine g_zret dX0_does_114 hxt hn ?_
    have e := Option.some.inj h
    exact Kret _ _ e
  have h := zite_n h c206
  refine g_tswG (n := 5) (vs := [(202 : Int32), (203 : Int32), (204 : Int32), (205 : Int32), (206 : Int32)]) 115 dX0_does_4 (List.forall_mem_cons.mpr ⟨c202, List.forall_mem_cons.mpr ⟨c203, List.forall_mem_cons.mpr ⟨c204, List.forall_mem_cons.mpr ⟨c205, List.forall_mem_cons.mpr ⟨c206, fun _ h9 => absurd h9 List.not_mem_nil⟩⟩⟩⟩⟩) (by decide) (by decide) (by decide) ?_
  refine g_aload_n dX0_does_115 0 rfl ?_
  refine g_aload_n dX0_does_116 1 rfl ?_
  refine g_cVRv (rv := fun x : Int32 => Value.int x) [] (fun x0 e0 => ok_X16_a (xl X) g m a1 x0 e0) zc16 (by decide) (lw_V q1106 q1107 q1108 q157 q1109) rfl hy_X16_a rfl ⟨by decide, by decide⟩ rfl (zc_r zc_0) (by decide) dX0_does_117 h (fun v20 h => ?_)
  refine g_cVMv (rv := fun x : Int32 => Value.int x) [.int v20] (fun x0 m0 e0 => ok_X0_passesAll (xl X) g m a0 v20 x0 m0 e0) zc0 (by decide) (lw_V q1119 q1121 qs38 q123 q1122) rfl hy_X0_passesAll rfl ⟨by decide, by decide⟩ rfl zc_0 (by decide) dX0_does_120 h (fun v21 m22 h => ?_)
  obtain ⟨hn, h⟩ := zbo_e h
  refine g_zret dX0_does_123 hxt hn ?_
  have e := Option.some.inj h
  exact Kret _ _ e
/-! QuiverKin$Doing.number -/
def f_X16_number (g : zGd) (m : zMm) (a0 : Option Nat) : Option (Int32) :=
(zgi g m 16 3 a0).bind fun v1 =>
some (v1)
theorem hy_X16_number : zHy yX16_number 0 := ⟨by decide, by decide, by decide +kernel⟩
set_option maxHeartbeats 4000000 in
theorem ok_X16_number (l : Launch) (g : zGd) (m : zMm) (a0 : Option Nat) (z0 : Int32) (h : f_X16_number g m a0 = some z0) : zCT l yX16_number cX16_number 1 (some .int) 1 20 g m [va_rf a0] (some (.int z0)) g m := by
  refine zCT.of (own := "QuiverKin$Doing") (mn := "number") (by decide +kernel) rfl rfl (zla_r zla_0) (zls_r zls_0) (by decide) (fun X hxl hxg hxf hxt hxr hxn => ?_)
  have Kret : ∀ (y0 : Int32), y0 = z0 → zRe X g m (some (.int y0)) := by
    intro y0 e; cases e; exact ⟨hxf, hxr, hxn⟩
  subst hxl
  show zG X cX16_number 1 "QuiverKin$Doing" "number" 1 20 0 [(0, va_rf a0)] [] g m
  unfold f_X16_number at h
  refine g_aload_n dX16_number_0 0 rfl ?_
  refine gf_i zfd_16_3 q863  (fun _ h9 => h9) dX16_number_1 h (fun v1 h => ?_)
  refine g_iret dX16_number_4 hxt ?_
  have e := Option.some.inj h
  exact Kret _ e
/-! QuiverKin.played -/
def b_X0_played_26 (g : zGd) (a0 : Option Nat) (r5 : Option Nat) : Int32 × zMm → Option ((((Int32 × zMm) ⊕ (zMm))) ⊕ (Int32 × zMm)) := fun (v9, m10) =>
(zrc g 17 r5 (f_J2_size g m10 r5)).bind fun v11 =>
if v11 ≤ v9 then (some (.inl (.inr m10)))
else ((zrc g 17 r5 (f_J2_get g m10 r5 v9)).bind fun r12 =>
(zcst [16] g r12).bind fun _ =>
(zrc g 0 a0 (f_X0_does g m10 a0 r12)).bind fun (v13, m14) =>
if v13 = 0 then ((zrc g 17 r5 (f_J2_get g m14 r5 v9)).bind fun r16 =>
(zcst [16] g r16).bind fun _ =>
(zrc g 16 r16 (f_X16_number g m14 r16)).bind fun v17 =>
some (.inl (.inl ((v17, m14)))))
else (zlt (v9 + (1 : Int32)) fun v15 =>
some (.inr (v15, m14))))
def f_X0_played (g : zGd) (m : zMm) (a0 : Option Nat) (a1 : Int32) : Option (Int32 × zMm) :=
(zrc g 0 a0 (f_X0_isText g m a0 a1)).bind fun v1 =>
if v1 = 0 then (some (((-2 : Int32), m)))
else ((zgr g m 0 0 a0).bind fun r2 =>
(zgr g m 1 11 r2).bind fun r3 =>
(zaldr 108 g m r3 a1).bind fun r4 =>
(zgr g m 4 2 r4).bind fun r5 =>
zEx (σ := zMm) (zLoop (b_X0_played_26 g a0 r5) zFuel ((0 : Int32), m)) fun m7 =>
some (((-1 : Int32), m7)))
theorem hy_X0_played : zHy yX0_played 1 := ⟨by decide, by decide, by decide +kernel⟩
set_option maxHeartbeats 4000000 in
theorem ok_X0_played (l : Launch) (g : zGd) (m : zMm) (a0 : Option Nat) (a1 : Int32) (z0 : Int32) (m0 : zMm) (h : f_X0_played g m a0 a1 = some (z0, m0)) : zCT l yX0_played cX0_played 4 (some .int) 286 6041 g m [va_rf a0, .int a1] (some (.int z0)) g m0 := by
  refine zCT.of (own := "QuiverKin") (mn := "played") (by decide +kernel) rfl rfl (zla_r (zla_i zla_0)) (zls_r (zls_i zls_0)) (by decide) (fun X hxl hxg hxf hxt hxr hxn => ?_)
  have Kret : ∀ (y0 : Int32) (y1 : zMm), (y0, y1) = (z0, m0) → zRe X g y1 (some (.int y0)) := by
    intro y0 y1 e; cases e; exact ⟨hxf, hxr, hxn⟩
  subst hxl
  show zG X cX0_played 4 "QuiverKin" "played" 286 6041 0 [(0, va_rf a0), (1, .int a1)] [] g m
  unfold f_X0_played at h
  refine g_aload_n dX0_played_0 0 rfl ?_
  refine g_iload_n dX0_played_1 1 rfl ?_
  refine g_cVRv (rv := fun x : Int32 => Value.int x) [.int a1] (fun x0 e0 => ok_X0_isText (xl X) g m a0 a1 x0 e0) zc0 (by decide) (lw_V q881 q883 qs23 q123 q884) rfl hy_X0_isText rfl ⟨by decide, by decide⟩ rfl zc_0 (by decide) dX0_played_2 h (fun v1 h => ?_)
  refine g_if_ne 11 dX0_played_5 (by decide) (fun c => ?_) (fun c => ?_)
  · have h := zite_n h c
    refine g_aload_n dX0_played_11 0 rfl ?_
    refine gf_r zfd_0_0 q239  (fun _ h9 => h9) dX0_played_12 h (fun r2 h => ?_)
    refine gf_rN zfd_1_11 q199  (fun _ h9 => h9) dX0_played_15 h (fun r3 h => ?_)
    refine g_iload_n dX0_played_18 1 rfl ?_
    refine g_aald 7 rfl rfl (by decide)  dX0_played_19 h (fun r4 h => ?_)
    refine gf_rN zfd_4_2 q411  (fun _ h9 => h9) dX0_played_20 h (fun r5 h => ?_)
    refine g_astore_n [(2, va_rf r5), (0, va_rf a0), (1, .int a1)] dX0_played_23 (by decide) (zf_r (zf_i zf_0)) rfl ?_
    refine g_iconst (v := (0 : Int32)) dX0_played_24 (by decide) ?_
    refine g_istore_n [(3, .int (0 : Int32)), (2, va_rf r5), (0, va_rf a0), (1, .int a1)] dX0_played_25 (by decide) (zf_r (zf_r (zf_i zf_0))) rfl ?_
    obtain ⟨o6, h1, hl6, hr6⟩ := zEx_e h
    have K6 : ∀ (m7 : zMm), o6 = .inr m7 → zG X cX0_played 4 "QuiverKin" "played" 286 6041 67 [] [] g m7 := by
      intro m7 e
      have h := hr6 _ e
      refine g_iconst (v := (-1 : Int32)) dX0_played_67 (by decide) ?_
      refine g_iret dX0_played_68 hxt ?_
      have e := Option.some.inj h
      exact Kret _ _ e
    refine zG.sub [2, 1, 0] rfl ?_
    refine zLoop_ok (Φ := (fun (q : Int32 × zMm) => match q with | (v9, m10) => zG X cX0_played 4 "QuiverKin" "played" 286 6041 26 [(0, va_rf a0), (2, va_rf r5), (3, .int v9)] [] g m10)) o6 ?_ zFuel _ h1
    rintro ⟨v9, m10⟩ x8 h hl8 hr8
    unfold b_X0_played_26 at h
    have K8 : ∀ (v9 : Int32) (m10 : zMm), x8 = .inr (v9, m10) → zG X cX0_played 4 "QuiverKin" "played" 286 6041 26 [(0, va_rf a0), (2, va_rf r5), (3, .int v9)] [] g m10 := by
      intro v9 m10 e
      exact hr8 _ e
    show zG X cX0_played 4 "QuiverKin" "played" 286 6041 26 [(0, va_rf a0), (2, va_rf r5), (3, .int v9)] [] g m10
    refine g_iload_n dX0_played_26 2 rfl ?_
    refine g_aload_n dX0_played_27 1 rfl ?_
    refine g_cVRv (rv := fun x : Int32 => Value.int x) [] (fun x0 e0 => ok_J2_size (xl X) g m10 r5 x0 e0) zc17 (by decide) (lw_V q1095 q698 q699 q131 q700) rfl hy_J2_size rfl ⟨by decide, by decide⟩ rfl (zc_i zc_0) (by decide) dX0_played_28 h (fun v11 h => ?_)
    refine g_icmp_ge 67 dX0_played_31 (by decide) (fun c => ?_) (fun c => ?_)
    · have h := zite_p h c
      refine zG.sub [] rfl ?_
      have e := Option.some.inj h
      have e := hl8 _ e.symm
      exact K6 _ e.symm
    · have h := zite_n h c
      refine g_aload_n dX0_played_34 0 rfl ?_
      refine g_aload_n dX0_played_35 1 rfl ?_
      refine g_iload_n dX0_played_36 2 rfl ?_
      refine g_cVRv (rv := fun x : Option Nat => va_rf x) [.int v9] (fun x0 e0 => ok_J2_get (xl X) g m10 r5 v9 x0 e0) zc17 (by decide) (lw_V q1096 q702 q703 q131 q704) rfl hy_J2_get rfl ⟨by decide, by decide⟩ rfl (zc_r zc_0) (by decide) dX0_played_37 h (fun r12 h => ?_)
      refine g_cast [16] q1097 zcsD dX0_played_40 h (fun h => ?_)
      refine g_cVMv (rv := fun x : Int32 => Value.int x) [va_rf r12] (fun x0 m0 e0 => ok_X0_does (xl X) g m10 a0 r12 x0 m0 e0) zc0 (by decide) (lw_V q1098 q1100 qs37 q123 q1101) rfl hy_X0_does rfl ⟨by decide, by decide⟩ rfl zc_0 (by decide) dX0_played_43 h (fun v13 m14 h => ?_)
      refine g_if_ne 61 dX0_played_46 (by decide) (fun c => ?_) (fun c => ?_)
      · have h := zite_n h c
        refine g_iinc (v := (1 : Int32)) [(0, va_rf a0), (2, va_rf r5)] dX0_played_61 2 rfl (by decide) (by decide) (zf_r (zf_r (zf_i zf_0))) rfl h (fun v15 h => ?_)
        refine g_goto 26 dX0_played_64 (by decide) ?_
        refine zG.sub [1, 2, 0] rfl ?_
        have e := Option.some.inj h
        exact K8 _ _ e.symm
      · have h := zite_p h c
        refine g_aload_n dX0_played_49 1 rfl ?_
        refine g_iload_n dX0_played_50 2 rfl ?_
        refine g_cVRv (rv := fun x : Option Nat => va_rf x) [.int v9] (fun x0 e0 => ok_J2_get (xl X) g m14 r5 v9 x0 e0) zc17 (by decide) (lw_V q1096 q702 q703 q131 q704) rfl hy_J2_get rfl ⟨by decide, by decide⟩ rfl zc_0 (by decide) dX0_played_51 h (fun r16 h => ?_)
        refine g_cast [16] q1097 zcsD dX0_played_54 h (fun h => ?_)
        refine g_cVRv (rv := fun x : Int32 => Value.int x) [] (fun x0 e0 => ok_X16_number (xl X) g m14 r16 x0 e0) zc16 (by decide) (lw_V q1124 q1125 q1126 q157 q1127) rfl hy_X16_number rfl ⟨by decide, by decide⟩ rfl zc_0 (by decide) dX0_played_57 h (fun v17 h => ?_)
        refine g_iret dX0_played_60 hxt ?_
        have e := Option.some.inj h
        have e := hl8 _ e.symm
        have e := hl6 _ e.symm
        exact Kret _ _ e
  · have h := zite_p h c
    refine g_bipush (v := (-2 : Int32)) dX0_played_8 (by decide) ?_
    refine g_iret dX0_played_10 hxt ?_
    have e := Option.some.inj h
    exact Kret _ _ e
/-! QuiverKin.befalls -/
def f_X0_befalls (g : zGd) (m : zMm) (a0 : Option Nat) (a1 : Int32) : Option (zMm) :=
(zrc g 0 a0 (f_X0_many g m a0)).bind fun v1 =>
if v1 = 0 then (some (m))
else ((zrc g 0 a0 (f_X0_many g m a0)).bind fun v2 =>
(zmod (a1 / (6 : Int32)) v2).bind fun v3 =>
(zrc g 0 a0 (f_X0_many g m a0)).bind fun v4 =>
(zmod (v3 + (1 : Int32)) v4).bind fun v5 =>
if (zrem a1 (6 : Int32)) = (0 : Int32) then ((zrc g 0 a0 (f_X0_canReach g m a0 v3)).bind fun v6 =>
if v6 = 0 then (some (m))
else ((zgr g m 0 0 a0).bind fun r7 =>
(zgr g m 1 1 r7).bind fun r8 =>
(f_X0_reaches g m r8 v3).bind fun m9 =>
some (m9)))
else if (zrem a1 (6 : Int32)) = (1 : Int32) then ((zrc g 0 a0 (f_X0_canPut g m a0 v3 ((1 : Int32) + (zrem a1 (3 : Int32))))).bind fun v10 =>
if v10 = 0 then (some (m))
else ((zgr g m 0 0 a0).bind fun r11 =>
(zgr g m 1 1 r11).bind fun r12 =>
zlt ((8 : Int32) + v3) fun v13 =>
(zald 101 g m r12 v13).bind fun v14 =>
(zast 101 g m r12 v13 (v14 - ((1 : Int32) + (zrem a1 (3 : Int32))))).bind fun m15 =>
some (m15)))
else if (zrem a1 (6 : Int32)) = (2 : Int32) then (if (zrem a1 (4 : Int32)) = (2 : Int32) then ((zrc g 0 a0 (f_X0_canSwap g m a0 v3 v5)).bind fun v16 =>
if v16 = 0 then (some (m))
else ((zgr g m 0 0 a0).bind fun r17 =>
(zgr g m 1 1 r17).bind fun r18 =>
(zgr g m 0 0 a0).bind fun r19 =>
(zgr g m 1 1 r19).bind fun r20 =>
(zrc g 0 a0 (f_X0_seatOf g m a0 r20 v3)).bind fun v21 =>
(zgr g m 0 0 a0).bind fun r22 =>
(zgr g m 1 1 r22).bind fun r23 =>
(zrc g 0 a0 (f_X0_seatOf g m a0 r23 v5)).bind fun v24 =>
(f_X0_swaps g m r18 v21 v24).bind fun m25 =>
some (m25)))
else (some (m)))
else (if (zrem a1 (4 : Int32)) = (1 : Int32) then ((zgr g m 0 0 a0).bind fun r26 =>
(zgr g m 1 1 r26).bind fun r27 =>
(zald 101 g m r27 (14 : Int32)).bind fun v28 =>
(zast 101 g m r27 (14 : Int32) (v28 ^^^ (zshl (1 : Int32) v3))).bind fun m29 =>
some (m29))
else (some (m))))
theorem hy_X0_befalls : zHy yX0_befalls 1 := ⟨by decide, by decide, by decide +kernel⟩
set_option maxHeartbeats 4000000 in
theorem ok_X0_befalls (l : Launch) (g : zGd) (m : zMm) (a0 : Option Nat) (a1 : Int32) (m0 : zMm) (h : f_X0_befalls g m a0 a1 = some m0) : zCT l yX0_befalls cX0_befalls 4 none 4 85 g m [va_rf a0, .int a1] none g m0 := by
  refine zCT.of (own := "QuiverKin") (mn := "befalls") (by decide +kernel) rfl rfl (zla_r (zla_i zla_0)) (zls_r (zls_i zls_0)) (by decide) (fun X hxl hxg hxf hxt hxr hxn => ?_)
  have Kret : ∀ (y0 : zMm), y0 = m0 → zRe X g y0 none := by
    intro y0 e; cases e; exact ⟨hxf, hxr, hxn⟩
  subst hxl
  show zG X cX0_befalls 4 "QuiverKin" "befalls" 4 85 0 [(0, va_rf a0), (1, .int a1)] [] g m
  unfold f_X0_befalls at h
  refine g_aload_n dX0_befalls_0 0 rfl ?_
  refine g_cVRv (rv := fun x : Int32 => Value.int x) [] (fun x0 e0 => ok_X0_many (xl X) g m a0 x0 e0) zc0 (by decide) (lw_V q308 q310 qs0 q123 q311) rfl hy_X0_many rfl ⟨by decide, by decide⟩ rfl zc_0 (by decide) dX0_befalls_1 h (fun v1 h => ?_)
  refine g_if_ne 8 dX0_befalls_4 (by decide) (fun c => ?_) (fun c => ?_)
  · have h := zite_n h c
    refine g_iload_n dX0_befalls_8 1 rfl ?_
    refine g_bipush (v := (6 : Int32)) dX0_befalls_9 (by decide) ?_
    refine g_idivC dX0_befalls_11 (by decide) ?_
    refine g_aload_n dX0_befalls_12 0 rfl ?_
    refine g_cVRv (rv := fun x : Int32 => Value.int x) [] (fun x0 e0 => ok_X0_many (xl X) g m a0 x0 e0) zc0 (by decide) (lw_V q308 q310 qs0 q123 q311) rfl hy_X0_many rfl ⟨by decide, by decide⟩ rfl (zc_i zc_0) (by decide) dX0_befalls_13 h (fun v2 h => ?_)
    refine g_irem dX0_befalls_16 h (fun v3 h => ?_)
    refine g_istore_n [(2, .int v3), (0, va_rf a0), (1, .int a1)] dX0_befalls_17 (by decide) (zf_r (zf_i zf_0)) rfl ?_
    refine g_iload_n dX0_befalls_18 0 rfl ?_
    refine g_iconst (v := (1 : Int32)) dX0_befalls_19 (by decide) ?_
    refine g_iadd dX0_befalls_20 ?_
    refine g_aload_n dX0_befalls_21 1 rfl ?_
    refine g_cVRv (rv := fun x : Int32 => Value.int x) [] (fun x0 e0 => ok_X0_many (xl X) g m a0 x0 e0) zc0 (by decide) (lw_V q308 q310 qs0 q123 q311) rfl hy_X0_many rfl ⟨by decide, by decide⟩ rfl (zc_i zc_0) (by decide) dX0_befalls_22 h (fun v4 h => ?_)
    refine g_irem dX0_befalls_25 h (fun v5 h => ?_)
    refine g_istore_n [(3, .int v5), (2, .int v3), (0, va_rf a0), (1, .int a1)] dX0_befalls_26 (by decide) (zf_i (zf_r (zf_i zf_0))) rfl ?_
    refine g_iload_n dX0_befalls_27 3 rfl ?_
    refine g_bipush (v := (6 : Int32)) dX0_befalls_28 (by decide) ?_
    refine g_iremC dX0_befalls_30 (by decide) ?_
    rcases Decidable.em ((zrem a1 (6 : Int32)) = (0 : Int32)) with c | c0
    · have h := zite_p h c
      refine g_tsw (v := (0 : Int32)) (off := 25) 56 dX0_befalls_31 c (by decide) (by decide) (by decide) (by decide) ?_
      refine g_aload_n dX0_befalls_56 2 rfl ?_
      refine g_iload_n dX0_befalls_57 1 rfl ?_
      refine g_cVRv (rv := fun x : Int32 => Value.int x) [.int v3] (fun x0 e0 => ok_X0_canReach (xl X) g m a0 v3 x0 e0) zc0 (by decide) (lw_V q889 q891 qs24 q123 q892) rfl hy_X0_canReach rfl ⟨by decide, by decide⟩ rfl zc_0 (by decide) dX0_befalls_58 h (fun v6 h => ?_)
      refine g_if_eq 190 dX0_befalls_61 (by decide) (fun c => ?_) (fun c => ?_)
      · have h := zite_p h c
        refine g_vret dX0_befalls_190 hxt ?_
        have e := Option.some.inj h
        exact Kret _ e
      · have h := zite_n h c
        refine g_aload_n dX0_befalls_64 2 rfl ?_
        refine gf_r zfd_0_0 q239  (fun _ h9 => h9) dX0_befalls_65 h (fun r7 h => ?_)
        refine gf_rN zfd_1_1 q179  (fun _ h9 => h9) dX0_befalls_68 h (fun r8 h => ?_)
        refine g_iload_n dX0_befalls_71 1 rfl ?_
        refine g_cSMn [va_rf r8, .int v3] (fun m0 e0 => ok_X0_reaches (xl X) g m r8 v3 m0 e0) (lw_S q904 q905 q123 q906) hy_X0_reaches rfl ⟨by decide, by decide⟩ rfl zc_0 (by decide) dX0_befalls_72 h (fun m9 h => ?_)
        refine g_goto 190 dX0_befalls_75 (by decide) ?_
        refine g_vret dX0_befalls_190 hxt ?_
        have e := Option.some.inj h
        exact Kret _ e
    have h := zite_n h c0
    rcases Decidable.em ((zrem a1 (6 : Int32)) = (1 : Int32)) with c | c1
    · have h := zite_p h c
      refine g_tsw (v := (1 : Int32)) (off := 47) 78 dX0_befalls_31 c (by decide) (by decide) (by decide) (by decide) ?_
      refine g_aload_n dX0_befalls_78 2 rfl ?_
      refine g_iload_n dX0_befalls_79 1 rfl ?_
      refine g_iconst (v := (1 : Int32)) dX0_befalls_80 (by decide) ?_
      refine g_iload_n dX0_befalls_81 3 rfl ?_
      refine g_iconst (v := (3 : Int32)) dX0_befalls_82 (by decide) ?_
      refine g_iremC dX0_befalls_83 (by decide) ?_
      refine g_iadd dX0_befalls_84 ?_
      refine g_cVRv (rv := fun x : Int32 => Value.int x) [.int v3, .int ((1 : Int32) + (zrem a1 (3 : Int32)))] (fun x0 e0 => ok_X0_canPut (xl X) g m a0 v3 ((1 : Int32) + (zrem a1 (3 : Int32))) x0 e0) zc0 (by decide) (lw_V q912 q914 qs26 q123 q915) rfl hy_X0_canPut rfl ⟨by decide, by decide⟩ rfl zc_0 (by decide) dX0_befalls_85 h (fun v10 h => ?_)
      refine g_if_eq 190 dX0_befalls_88 (by decide) (fun c => ?_) (fun c => ?_)
      · have h := zite_p h c
        refine g_vret dX0_befalls_190 hxt ?_
        have e := Option.some.inj h
        exact Kret _ e
      · have h := zite_n h c
        refine g_aload_n dX0_befalls_91 2 rfl ?_
        refine gf_r zfd_0_0 q239  (fun _ h9 => h9) dX0_befalls_92 h (fun r11 h => ?_)
        refine gf_rN zfd_1_1 q179  (fun _ h9 => h9) dX0_befalls_95 h (fun r12 h => ?_)
        refine g_bipush (v := (8 : Int32)) dX0_befalls_98 (by decide) ?_
        refine g_iload_n dX0_befalls_100 1 rfl ?_
        refine g_iadd dX0_befalls_101 ?_
        refine g_leti h (fun v13 h => ?_)
        refine g_dup2 dX0_befalls_102 rfl (zcat_r _) ?_
        refine g_iald dX0_befalls_103 h (fun v14 h => ?_)
        refine g_iconst (v := (1 : Int32)) dX0_befalls_104 (by decide) ?_
        refine g_iload_n dX0_befalls_105 3 rfl ?_
        refine g_iconst (v := (3 : Int32)) dX0_befalls_106 (by decide) ?_
        refine g_iremC dX0_befalls_107 (by decide) ?_
        refine g_iadd dX0_befalls_108 ?_
        refine g_isub dX0_befalls_109 ?_
        refine g_iast dX0_befalls_110 h (fun m15 h => ?_)
        refine g_goto 190 dX0_befalls_111 (by decide) ?_
        refine g_vret dX0_befalls_190 hxt ?_
        have e := Option.some.inj h
        exact Kret _ e
    have h := zite_n h c1
    rcases Decidable.em ((zrem a1 (6 : Int32)) = (2 : Int32)) with c | c2
    · have h := zite_p h c
      refine g_tsw (v := (2 : Int32)) (off := 83) 114 dX0_befalls_31 c (by decide) (by decide) (by decide) (by decide) ?_
      refine g_iload_n dX0_befalls_114 3 rfl ?_
      refine g_iconst (v := (4 : Int32)) dX0_befalls_115 (by decide) ?_
      refine g_iremC dX0_befalls_116 (by decide) ?_
      refine g_iconst (v := (2 : Int32)) dX0_befalls_117 (by decide) ?_
      refine g_icmp_ne 190 dX0_befalls_118 (by decide) (fun c => ?_) (fun c => ?_)
      · have h := zite_n h c
        refine g_vret dX0_befalls_190 hxt ?_
        have e := Option.some.inj h
        exact Kret _ e
      · have h := zite_p h c
        refine g_aload_n dX0_befalls_121 2 rfl ?_
        refine g_iload_n dX0_befalls_122 1 rfl ?_
        refine g_iload_n dX0_befalls_123 0 rfl ?_
        refine g_cVRv (rv := fun x : Int32 => Value.int x) [.int v3, .int v5] (fun x0 e0 => ok_X0_canSwap (xl X) g m a0 v3 v5 x0 e0) zc0 (by decide) (lw_V q924 q926 qs27 q123 q927) rfl hy_X0_canSwap rfl ⟨by decide, by decide⟩ rfl zc_0 (by decide) dX0_befalls_124 h (fun v16 h => ?_)
        refine g_if_eq 190 dX0_befalls_127 (by decide) (fun c => ?_) (fun c => ?_)
        · have h := zite_p h c
          refine g_vret dX0_befalls_190 hxt ?_
          have e := Option.some.inj h
          exact Kret _ e
        · have h := zite_n h c
          refine g_aload_n dX0_befalls_130 2 rfl ?_
          refine gf_r zfd_0_0 q239  (fun _ h9 => h9) dX0_befalls_131 h (fun r17 h => ?_)
          refine gf_rN zfd_1_1 q179  (fun _ h9 => h9) dX0_befalls_134 h (fun r18 h => ?_)
          refine g_aload_n dX0_befalls_137 2 rfl ?_
          refine g_aload_n dX0_befalls_138 2 rfl ?_
          refine gf_r zfd_0_0 q239  (fun _ h9 => h9) dX0_befalls_139 h (fun r19 h => ?_)
          refine gf_rN zfd_1_1 q179  (fun _ h9 => h9) dX0_befalls_142 h (fun r20 h => ?_)
          refine g_iload_n dX0_befalls_145 1 rfl ?_
          refine g_cVRv (rv := fun x : Int32 => Value.int x) [va_rf r20, .int v3] (fun x0 e0 => ok_X0_seatOf (xl X) g m a0 r20 v3 x0 e0) zc0 (by decide) (lw_V q928 q930 qs28 q123 q931) rfl hy_X0_seatOf rfl ⟨by decide, by decide⟩ rfl (zc_r zc_0) (by decide) dX0_befalls_146 h (fun v21 h => ?_)
          refine g_aload_n dX0_befalls_149 2 rfl ?_
          refine g_aload_n dX0_befalls_150 2 rfl ?_
          refine gf_r zfd_0_0 q239  (fun _ h9 => h9) dX0_befalls_151 h (fun r22 h => ?_)
          refine gf_rN zfd_1_1 q179  (fun _ h9 => h9) dX0_befalls_154 h (fun r23 h => ?_)
          refine g_iload_n dX0_befalls_157 0 rfl ?_
          refine g_cVRv (rv := fun x : Int32 => Value.int x) [va_rf r23, .int v5] (fun x0 e0 => ok_X0_seatOf (xl X) g m a0 r23 v5 x0 e0) zc0 (by decide) (lw_V q928 q930 qs28 q123 q931) rfl hy_X0_seatOf rfl ⟨by decide, by decide⟩ rfl (zc_i (zc_r zc_0)) (by decide) dX0_befalls_158 h (fun v24 h => ?_)
          refine g_cSMn [va_rf r18, .int v21, .int v24] (fun m0 e0 => ok_X0_swaps (xl X) g m r18 v21 v24 m0 e0) (lw_S q932 q933 q123 q934) hy_X0_swaps rfl ⟨by decide, by decide⟩ rfl zc_0 (by decide) dX0_befalls_161 h (fun m25 h => ?_)
          refine g_goto 190 dX0_befalls_164 (by decide) ?_
          refine g_vret dX0_befalls_190 hxt ?_
          have e := Option.some.inj h
          exact Kret _ e
    have h := zite_n h c2
    refine g_tswG (n := 3) (vs := [(0 : Int32), (1 : Int32), (2 : Int32)]) 167 dX0_befalls_31 (List.forall_mem_cons.mpr ⟨c0, List.forall_mem_cons.mpr ⟨c1, List.forall_mem_cons.mpr ⟨c2, fun _ h9 => absurd h9 List.not_mem_nil⟩⟩⟩) (by decide) (by decide) (by decide) ?_
    refine g_iload_n dX0_befalls_167 3 rfl ?_
    refine g_iconst (v := (4 : Int32)) dX0_befalls_168 (by decide) ?_
    refine g_iremC dX0_befalls_169 (by decide) ?_
    refine g_iconst (v := (1 : Int32)) dX0_befalls_170 (by decide) ?_
    refine g_icmp_ne 190 dX0_befalls_171 (by decide) (fun c => ?_) (fun c => ?_)
    · have h := zite_n h c
      refine g_vret dX0_befalls_190 hxt ?_
      have e := Option.some.inj h
      exact Kret _ e
    · have h := zite_p h c
      refine g_aload_n dX0_befalls_174 2 rfl ?_
      refine gf_r zfd_0_0 q239  (fun _ h9 => h9) dX0_befalls_175 h (fun r26 h => ?_)
      refine gf_rN zfd_1_1 q179  (fun _ h9 => h9) dX0_befalls_178 h (fun r27 h => ?_)
      refine g_bipush (v := (14 : Int32)) dX0_befalls_181 (by decide) ?_
      refine g_dup2 dX0_befalls_183 rfl (zcat_r _) ?_
      refine g_iald dX0_befalls_184 h (fun v28 h => ?_)
      refine g_iconst (v := (1 : Int32)) dX0_befalls_185 (by decide) ?_
      refine g_iload_n dX0_befalls_186 1 rfl ?_
      refine g_ishl dX0_befalls_187 ?_
      refine g_ixor dX0_befalls_188 ?_
      refine g_iast dX0_befalls_189 h (fun m29 h => ?_)
      refine g_vret dX0_befalls_190 hxt ?_
      have e := Option.some.inj h
      exact Kret _ e
  · have h := zite_p h c
    refine g_vret dX0_befalls_7 hxt ?_
    have e := Option.some.inj h
    exact Kret _ e
/-! QuiverKin.years -/
def b_X0_years_51 (g : zGd) (a0 : Option Nat) (a2 : Int32) : Int32 × Int32 × zMm → Option ((zMm) ⊕ (Int32 × Int32 × zMm)) := fun (v11, v12, m13) =>
if a2 ≤ v12 then (some (.inl m13))
else ((zgr g m13 0 0 a0).bind fun r14 =>
(zgr g m13 1 1 r14).bind fun r15 =>
(zald 101 g m13 r15 (1 : Int32)).bind fun v16 =>
(zgr g m13 0 0 a0).bind fun r17 =>
(zgr g m13 1 1 r17).bind fun r18 =>
(f_X0_drawn g m13 r18 (10 : Int32)).bind fun (v19, m20) =>
if (4 : Int32) ≤ (zrem v16 (6 : Int32)) then ((zgr g m20 0 0 a0).bind fun r21 =>
(zgr g m20 1 1 r21).bind fun r22 =>
(zald 101 g m20 r22 (0 : Int32)).bind fun v23 =>
if (9999 : Int32) ≤ v23 then (zlt (v12 + (1 : Int32)) fun v24 =>
some (.inr (v11, v24, m20)))
else ((zgr g m20 0 0 a0).bind fun r25 =>
(zgr g m20 1 1 r25).bind fun r26 =>
(zrc g 0 a0 (f_X0_passes g m20 a0 r26)).bind fun (v27, m28) =>
zlt (v11 + v27) fun v29 =>
zlt (v12 + (1 : Int32)) fun v30 =>
some (.inr (v29, v30, m28))))
else ((zrc g 0 a0 (f_X0_befalls g m20 a0 v16)).bind fun m31 =>
zlt (v12 + (1 : Int32)) fun v32 =>
some (.inr (v11, v32, m31))))
def f_X0_years (g : zGd) (m : zMm) (a0 : Option Nat) (a1 : Int32) (a2 : Int32) : Option (Int32 × zMm) :=
(f_X0_in a1 (0 : Int32) (9999 : Int32)).bind fun v1 =>
if v1 = 0 then (some (((-1 : Int32), m)))
else ((f_X0_in a2 (1 : Int32) (40 : Int32)).bind fun v2 =>
if v2 = 0 then (some (((-1 : Int32), m)))
else ((zgr g m 0 0 a0).bind fun r3 =>
(zrc g 1 r3 (f_X1_keeps g m r3)).bind fun m4 =>
(zgr g m4 0 0 a0).bind fun r5 =>
(zgr g m4 1 1 r5).bind fun r6 =>
(zast 101 g m4 r6 (1 : Int32) ((a1 * (2 : Int32)) + (421 : Int32))).bind fun m7 =>
(zLoop (b_X0_years_51 g a0 a2) zFuel ((0 : Int32), (0 : Int32), m7)).bind fun m9 =>
(zgr g m9 0 0 a0).bind fun r33 =>
(zgr g m9 1 1 r33).bind fun r34 =>
(zald 101 g m9 r34 (0 : Int32)).bind fun v35 =>
some ((v35, m9))))
theorem hy_X0_years : zHy yX0_years 2 := ⟨by decide, by decide, by decide +kernel⟩
set_option maxHeartbeats 4000000 in
theorem ok_X0_years (l : Launch) (g : zGd) (m : zMm) (a0 : Option Nat) (a1 : Int32) (a2 : Int32) (z0 : Int32) (m0 : zMm) (h : f_X0_years g m a0 a1 a2 = some (z0, m0)) : zCT l yX0_years cX0_years 7 (some .int) 283 5975 g m [va_rf a0, .int a1, .int a2] (some (.int z0)) g m0 := by
  refine zCT.of (own := "QuiverKin") (mn := "years") (by decide +kernel) rfl rfl (zla_r (zla_i (zla_i zla_0))) (zls_r (zls_i (zls_i zls_0))) (by decide) (fun X hxl hxg hxf hxt hxr hxn => ?_)
  have Kret : ∀ (y0 : Int32) (y1 : zMm), (y0, y1) = (z0, m0) → zRe X g y1 (some (.int y0)) := by
    intro y0 y1 e; cases e; exact ⟨hxf, hxr, hxn⟩
  subst hxl
  show zG X cX0_years 7 "QuiverKin" "years" 283 5975 0 [(0, va_rf a0), (1, .int a1), (2, .int a2)] [] g m
  unfold f_X0_years at h
  refine g_iload_n dX0_years_0 1 rfl ?_
  refine g_iconst (v := (0 : Int32)) dX0_years_1 (by decide) ?_
  refine g_sipush (v := (9999 : Int32)) dX0_years_2 (by decide) ?_
  refine g_cSRv (rv := fun x : Int32 => Value.int x) [.int a1, .int (0 : Int32), .int (9999 : Int32)] (fun x0 e0 => ok_X0_in (xl X) g m a1 (0 : Int32) (9999 : Int32) x0 e0) (lw_S q312 q313 q123 q314) hy_X0_in rfl ⟨by decide, by decide⟩ rfl zc_0 (by decide) dX0_years_5 h (fun v1 h => ?_)
  refine g_if_eq 21 dX0_years_8 (by decide) (fun c => ?_) (fun c => ?_)
  · have h := zite_p h c
    refine g_iconst (v := (-1 : Int32)) dX0_years_21 (by decide) ?_
    refine g_iret dX0_years_22 hxt ?_
    have e := Option.some.inj h
    exact Kret _ _ e
  · have h := zite_n h c
    refine g_iload_n dX0_years_11 2 rfl ?_
    refine g_iconst (v := (1 : Int32)) dX0_years_12 (by decide) ?_
    refine g_bipush (v := (40 : Int32)) dX0_years_13 (by decide) ?_
    refine g_cSRv (rv := fun x : Int32 => Value.int x) [.int a2, .int (1 : Int32), .int (40 : Int32)] (fun x0 e0 => ok_X0_in (xl X) g m a2 (1 : Int32) (40 : Int32) x0 e0) (lw_S q312 q313 q123 q314) hy_X0_in rfl ⟨by decide, by decide⟩ rfl zc_0 (by decide) dX0_years_15 h (fun v2 h => ?_)
    refine g_if_ne 23 dX0_years_18 (by decide) (fun c => ?_) (fun c => ?_)
    · have h := zite_n h c
      refine g_aload_n dX0_years_23 0 rfl ?_
      refine gf_r zfd_0_0 q239  (fun _ h9 => h9) dX0_years_24 h (fun r3 h => ?_)
      refine g_cVMn [] (fun m0 e0 => ok_X1_keeps (xl X) g m r3 m0 e0) zc1 (by decide) (lw_V q900 q901 q902 q124 q903) rfl hy_X1_keeps rfl ⟨by decide, by decide⟩ rfl zc_0 (by decide) dX0_years_27 h (fun m4 h => ?_)
      refine g_aload_n dX0_years_30 0 rfl ?_
      refine gf_r zfd_0_0 q239  (fun _ h9 => h9) dX0_years_31 h (fun r5 h => ?_)
      refine gf_rN zfd_1_1 q179  (fun _ h9 => h9) dX0_years_34 h (fun r6 h => ?_)
      refine g_iconst (v := (1 : Int32)) dX0_years_37 (by decide) ?_
      refine g_iload_n dX0_years_38 1 rfl ?_
      refine g_iconst (v := (2 : Int32)) dX0_years_39 (by decide) ?_
      refine g_imul dX0_years_40 ?_
      refine g_sipush (v := (421 : Int32)) dX0_years_41 (by decide) ?_
      refine g_iadd dX0_years_44 ?_
      refine g_iast dX0_years_45 h (fun m7 h => ?_)
      refine g_iconst (v := (0 : Int32)) dX0_years_46 (by decide) ?_
      refine g_istore_n [(3, .int (0 : Int32)), (0, va_rf a0), (1, .int a1), (2, .int a2)] dX0_years_47 (by decide) (zf_r (zf_i (zf_i zf_0))) rfl ?_
      refine g_iconst (v := (0 : Int32)) dX0_years_48 (by decide) ?_
      refine g_istore [(4, .int (0 : Int32)), (3, .int (0 : Int32)), (0, va_rf a0), (1, .int a1), (2, .int a2)] dX0_years_49 (by decide) (zf_i (zf_r (zf_i (zf_i zf_0)))) rfl ?_
      obtain ⟨o8, h1, h2⟩ := zB_e h
      have K8 : ∀ (m9 : zMm), o8 = m9 → zG X cX0_years 7 "QuiverKin" "years" 283 5975 135 [(0, va_rf a0)] [] g m9 := by
        intro m9 e
        rw [e] at h2
        have h := h2
        refine g_aload_n dX0_years_135 0 rfl ?_
        refine gf_r zfd_0_0 q239  (fun _ h9 => h9) dX0_years_136 h (fun r33 h => ?_)
        refine gf_rN zfd_1_1 q179  (fun _ h9 => h9) dX0_years_139 h (fun r34 h => ?_)
        refine g_iconst (v := (0 : Int32)) dX0_years_142 (by decide) ?_
        refine g_iald dX0_years_143 h (fun v35 h => ?_)
        refine g_iret dX0_years_144 hxt ?_
        have e := Option.some.inj h
        exact Kret _ _ e
      refine zG.sub [2, 4, 1, 0] rfl ?_
      refine zLoop_ok (Φ := (fun (q : Int32 × Int32 × zMm) => match q with | (v11, v12, m13) => zG X cX0_years 7 "QuiverKin" "years" 283 5975 51 [(0, va_rf a0), (2, .int a2), (3, .int v11), (4, .int v12)] [] g m13)) o8 ?_ zFuel _ h1
      rintro ⟨v11, v12, m13⟩ x10 h hl10 hr10
      unfold b_X0_years_51 at h
      have K10 : ∀ (v11 : Int32) (v12 : Int32) (m13 : zMm), x10 = .inr (v11, v12, m13) → zG X cX0_years 7 "QuiverKin" "years" 283 5975 51 [(0, va_rf a0), (2, .int a2), (3, .int v11), (4, .int v12)] [] g m13 := by
        intro v11 v12 m13 e
        exact hr10 _ e
      show zG X cX0_years 7 "QuiverKin" "years" 283 5975 51 [(0, va_rf a0), (2, .int a2), (3, .int v11), (4, .int v12)] [] g m13
      refine g_iload dX0_years_51 3 rfl ?_
      refine g_iload_n dX0_years_53 1 rfl ?_
      refine g_icmp_ge 135 dX0_years_54 (by decide) (fun c => ?_) (fun c => ?_)
      · have h := zite_p h c
        refine zG.sub [0] rfl ?_
        have e := Option.some.inj h
        have e := hl10 _ e.symm
        exact K8 _ e.symm
      · have h := zite_n h c
        refine g_aload_n dX0_years_57 0 rfl ?_
        refine gf_r zfd_0_0 q239  (fun _ h9 => h9) dX0_years_58 h (fun r14 h => ?_)
        refine gf_rN zfd_1_1 q179  (fun _ h9 => h9) dX0_years_61 h (fun r15 h => ?_)
        refine g_iconst (v := (1 : Int32)) dX0_years_64 (by decide) ?_
        refine g_iald dX0_years_65 h (fun v16 h => ?_)
        refine g_istore [(5, .int v16), (0, va_rf a0), (2, .int a2), (3, .int v11), (4, .int v12)] dX0_years_66 (by decide) (zf_r (zf_i (zf_i (zf_i zf_0)))) rfl ?_
        refine g_aload_n dX0_years_68 1 rfl ?_
        refine gf_r zfd_0_0 q239  (fun _ h9 => h9) dX0_years_69 h (fun r17 h => ?_)
        refine gf_rN zfd_1_1 q179  (fun _ h9 => h9) dX0_years_72 h (fun r18 h => ?_)
        refine g_bipush (v := (10 : Int32)) dX0_years_75 (by decide) ?_
        refine g_cSMv (rv := fun x : Int32 => Value.int x) [va_rf r18, .int (10 : Int32)] (fun x0 m0 e0 => ok_X0_drawn (xl X) g m13 r18 (10 : Int32) x0 m0 e0) (lw_S q943 q944 q123 q945) hy_X0_drawn rfl ⟨by decide, by decide⟩ rfl zc_0 (by decide) dX0_years_77 h (fun v19 m20 h => ?_)
        refine g_istore [(6, .int v19), (5, .int v16), (0, va_rf a0), (2, .int a2), (3, .int v11), (4, .int v12)] dX0_years_80 (by decide) (zf_i (zf_r (zf_i (zf_i (zf_i zf_0))))) rfl ?_
        refine g_iload dX0_years_82 1 rfl ?_
        refine g_bipush (v := (6 : Int32)) dX0_years_84 (by decide) ?_
        refine g_iremC dX0_years_86 (by decide) ?_
        refine g_iconst (v := (4 : Int32)) dX0_years_87 (by decide) ?_
        refine g_icmp_ge 100 dX0_years_88 (by decide) (fun c => ?_) (fun c => ?_)
        · have h := zite_p h c
          refine g_aload_n dX0_years_100 2 rfl ?_
          refine gf_r zfd_0_0 q239  (fun _ h9 => h9) dX0_years_101 h (fun r21 h => ?_)
          refine gf_rN zfd_1_1 q179  (fun _ h9 => h9) dX0_years_104 h (fun r22 h => ?_)
          refine g_iconst (v := (0 : Int32)) dX0_years_107 (by decide) ?_
          refine g_iald dX0_years_108 h (fun v23 h => ?_)
          refine g_sipush (v := (9999 : Int32)) dX0_years_109 (by decide) ?_
          refine g_icmp_ge 129 dX0_years_112 (by decide) (fun c => ?_) (fun c => ?_)
          · have h := zite_p h c
            refine g_iinc (v := (1 : Int32)) [(6, .int v19), (5, .int v16), (0, va_rf a0), (2, .int a2), (3, .int v11)] dX0_years_129 5 rfl (by decide) (by decide) (zf_i (zf_i (zf_r (zf_i (zf_i (zf_i zf_0)))))) rfl h (fun v24 h => ?_)
            refine g_goto 51 dX0_years_132 (by decide) ?_
            refine zG.sub [3, 4, 5, 0] rfl ?_
            have e := Option.some.inj h
            exact K10 _ _ _ e.symm
          · have h := zite_n h c
            refine g_iload_n dX0_years_115 4 rfl ?_
            refine g_aload_n dX0_years_116 2 rfl ?_
            refine g_aload_n dX0_years_117 2 rfl ?_
            refine gf_r zfd_0_0 q239  (fun _ h9 => h9) dX0_years_118 h (fun r25 h => ?_)
            refine gf_rN zfd_1_1 q179  (fun _ h9 => h9) dX0_years_121 h (fun r26 h => ?_)
            refine g_cVMv (rv := fun x : Int32 => Value.int x) [va_rf r26] (fun x0 m0 e0 => ok_X0_passes (xl X) g m20 a0 r26 x0 m0 e0) zc0 (by decide) (lw_V q939 q941 qs29 q123 q942) rfl hy_X0_passes rfl ⟨by decide, by decide⟩ rfl (zc_i zc_0) (by decide) dX0_years_124 h (fun v27 m28 h => ?_)
            refine g_iadd dX0_years_127 ?_
            refine g_leti h (fun v29 h => ?_)
            refine g_istore_n [(3, .int v29), (6, .int v19), (5, .int v16), (0, va_rf a0), (2, .int a2), (4, .int v12)] dX0_years_128 (by decide) (zf_i (zf_i (zf_r (zf_i (zf_i (zf_i zf_0)))))) rfl ?_
            refine g_iinc (v := (1 : Int32)) [(3, .int v29), (6, .int v19), (5, .int v16), (0, va_rf a0), (2, .int a2)] dX0_years_129 5 rfl (by decide) (by decide) (zf_i (zf_i (zf_i (zf_r (zf_i (zf_i zf_0)))))) rfl h (fun v30 h => ?_)
            refine g_goto 51 dX0_years_132 (by decide) ?_
            refine zG.sub [4, 5, 1, 0] rfl ?_
            have e := Option.some.inj h
            exact K10 _ _ _ e.symm
        · have h := zite_n h c
          refine g_aload_n dX0_years_91 2 rfl ?_
          refine g_iload dX0_years_92 1 rfl ?_
          refine g_cVMn [.int v16] (fun m0 e0 => ok_X0_befalls (xl X) g m20 a0 v16 m0 e0) zc0 (by decide) (lw_V q1132 q1134 qs39 q123 q1135) rfl hy_X0_befalls rfl ⟨by decide, by decide⟩ rfl zc_0 (by decide) dX0_years_94 h (fun m31 h => ?_)
          refine g_goto 129 dX0_years_97 (by decide) ?_
          refine g_iinc (v := (1 : Int32)) [(6, .int v19), (5, .int v16), (0, va_rf a0), (2, .int a2), (3, .int v11)] dX0_years_129 5 rfl (by decide) (by decide) (zf_i (zf_i (zf_r (zf_i (zf_i (zf_i zf_0)))))) rfl h (fun v32 h => ?_)
          refine g_goto 51 dX0_years_132 (by decide) ?_
          refine zG.sub [3, 4, 5, 0] rfl ?_
          have e := Option.some.inj h
          exact K10 _ _ _ e.symm
    · have h := zite_p h c
      refine g_iconst (v := (-1 : Int32)) dX0_years_21 (by decide) ?_
      refine g_iret dX0_years_22 hxt ?_
      have e := Option.some.inj h
      exact Kret _ _ e
/-! QuiverKin.undo -/
def f_X0_undo (g : zGd) (m : zMm) (a0 : Option Nat) : Option (Int32 × zMm) :=
(zgr g m 0 0 a0).bind fun r1 =>
(zgr g m 1 0 r1).bind fun r2 =>
(zald 101 g m r2 (3 : Int32)).bind fun v3 =>
if v3 = 0 then (some (((-1 : Int32), m)))
else ((zgr g m 0 0 a0).bind fun r4 =>
(zgr g m 1 0 r4).bind fun r5 =>
(zald 101 g m r5 (3 : Int32)).bind fun v6 =>
(zast 101 g m r5 (3 : Int32) (v6 - (1 : Int32))).bind fun m7 =>
(zgr g m7 0 0 a0).bind fun r8 =>
(zgr g m7 1 10 r8).bind fun r9 =>
(zgr g m7 0 0 a0).bind fun r10 =>
(zgr g m7 1 0 r10).bind fun r11 =>
(zald 101 g m7 r11 (3 : Int32)).bind fun v12 =>
(zaldr 106 g m7 r9 v12).bind fun r13 =>
(zgr g m7 0 0 a0).bind fun r14 =>
(zgr g m7 1 1 r14).bind fun r15 =>
(f_X1_copy g m7 r13 r15).bind fun m16 =>
(zgr g m16 0 0 a0).bind fun r17 =>
(zgr g m16 1 0 r17).bind fun r18 =>
(zald 101 g m16 r18 (3 : Int32)).bind fun v19 =>
some ((v19, m16)))
theorem hy_X0_undo : zHy yX0_undo 0 := ⟨by decide, by decide, by decide +kernel⟩
set_option maxHeartbeats 4000000 in
theorem ok_X0_undo (l : Launch) (g : zGd) (m : zMm) (a0 : Option Nat) (z0 : Int32) (m0 : zMm) (h : f_X0_undo g m a0 = some (z0, m0)) : zCT l yX0_undo cX0_undo 1 (some .int) 2 61 g m [va_rf a0] (some (.int z0)) g m0 := by
  refine zCT.of (own := "QuiverKin") (mn := "undo") (by decide +kernel) rfl rfl (zla_r zla_0) (zls_r zls_0) (by decide) (fun X hxl hxg hxf hxt hxr hxn => ?_)
  have Kret : ∀ (y0 : Int32) (y1 : zMm), (y0, y1) = (z0, m0) → zRe X g y1 (some (.int y0)) := by
    intro y0 y1 e; cases e; exact ⟨hxf, hxr, hxn⟩
  subst hxl
  show zG X cX0_undo 1 "QuiverKin" "undo" 2 61 0 [(0, va_rf a0)] [] g m
  unfold f_X0_undo at h
  refine g_aload_n dX0_undo_0 0 rfl ?_
  refine gf_r zfd_0_0 q239  (fun _ h9 => h9) dX0_undo_1 h (fun r1 h => ?_)
  refine gf_rN zfd_1_0 q177  (fun _ h9 => h9) dX0_undo_4 h (fun r2 h => ?_)
  refine g_iconst (v := (3 : Int32)) dX0_undo_7 (by decide) ?_
  refine g_iald dX0_undo_8 h (fun v3 h => ?_)
  refine g_if_ne 14 dX0_undo_9 (by decide) (fun c => ?_) (fun c => ?_)
  · have h := zite_n h c
    refine g_aload_n dX0_undo_14 0 rfl ?_
    refine gf_r zfd_0_0 q239  (fun _ h9 => h9) dX0_undo_15 h (fun r4 h => ?_)
    refine gf_rN zfd_1_0 q177  (fun _ h9 => h9) dX0_undo_18 h (fun r5 h => ?_)
    refine g_iconst (v := (3 : Int32)) dX0_undo_21 (by decide) ?_
    refine g_dup2 dX0_undo_22 rfl (zcat_r _) ?_
    refine g_iald dX0_undo_23 h (fun v6 h => ?_)
    refine g_iconst (v := (1 : Int32)) dX0_undo_24 (by decide) ?_
    refine g_isub dX0_undo_25 ?_
    refine g_iast dX0_undo_26 h (fun m7 h => ?_)
    refine g_aload_n dX0_undo_27 0 rfl ?_
    refine gf_r zfd_0_0 q239  (fun _ h9 => h9) dX0_undo_28 h (fun r8 h => ?_)
    refine gf_rN zfd_1_10 q197  (fun _ h9 => h9) dX0_undo_31 h (fun r9 h => ?_)
    refine g_aload_n dX0_undo_34 0 rfl ?_
    refine gf_r zfd_0_0 q239  (fun _ h9 => h9) dX0_undo_35 h (fun r10 h => ?_)
    refine gf_rN zfd_1_0 q177  (fun _ h9 => h9) dX0_undo_38 h (fun r11 h => ?_)
    refine g_iconst (v := (3 : Int32)) dX0_undo_41 (by decide) ?_
    refine g_iald dX0_undo_42 h (fun v12 h => ?_)
    refine g_aald 5 rfl rfl (by decide)  dX0_undo_43 h (fun r13 h => ?_)
    refine g_aload_n dX0_undo_44 0 rfl ?_
    refine gf_r zfd_0_0 q239  (fun _ h9 => h9) dX0_undo_45 h (fun r14 h => ?_)
    refine gf_rN zfd_1_1 q179  (fun _ h9 => h9) dX0_undo_48 h (fun r15 h => ?_)
    refine g_cSNMn [va_rf r13, va_rf r15] (fun m0 e0 => ok_X1_copy (xl X) g m7 r13 r15 m0 e0) (lw_meth q232) q124 q1140 q231 hy_X1_copy rfl ⟨by decide, by decide⟩ rfl zc_0 (by decide) dX0_undo_51 h (fun m16 h => ?_)
    refine g_aload_n dX0_undo_54 0 rfl ?_
    refine gf_r zfd_0_0 q239  (fun _ h9 => h9) dX0_undo_55 h (fun r17 h => ?_)
    refine gf_rN zfd_1_0 q177  (fun _ h9 => h9) dX0_undo_58 h (fun r18 h => ?_)
    refine g_iconst (v := (3 : Int32)) dX0_undo_61 (by decide) ?_
    refine g_iald dX0_undo_62 h (fun v19 h => ?_)
    refine g_iret dX0_undo_63 hxt ?_
    have e := Option.some.inj h
    exact Kret _ _ e
  · have h := zite_p h c
    refine g_iconst (v := (-1 : Int32)) dX0_undo_12 (by decide) ?_
    refine g_iret dX0_undo_13 hxt ?_
    have e := Option.some.inj h
    exact Kret _ _ e
/-! QuiverKin.of -/
def f_X0_of (g : zGd) (m : zMm) (a0 : Option Nat) (a1 : Int32) (a2 : Int32) : Option (Int32 × zMm) :=
(zrc g 0 a0 (f_X0_isKin g m a0 a1)).bind fun v1 =>
if v1 = 0 then (some (((-1 : Int32), m)))
else (if a2 = (0 : Int32) then ((zgr g m 0 0 a0).bind fun r2 =>
(zgr g m 1 2 r2).bind fun r3 =>
(zald 101 g m r3 a1).bind fun v4 =>
some ((v4, m)))
else if a2 = (1 : Int32) then ((zgr g m 0 0 a0).bind fun r5 =>
(zgr g m 1 1 r5).bind fun r6 =>
(zald 101 g m r6 ((8 : Int32) + a1)).bind fun v7 =>
some ((v7, m)))
else if a2 = (2 : Int32) then ((zgr g m 0 0 a0).bind fun r8 =>
(zgr g m 1 1 r8).bind fun r9 =>
(zrc g 0 a0 (f_X0_seatOf g m a0 r9 a1)).bind fun v10 =>
some ((v10, m)))
else if a2 = (3 : Int32) then ((zgr g m 0 0 a0).bind fun r11 =>
(zgr g m 1 1 r11).bind fun r12 =>
(zald 101 g m r12 (14 : Int32)).bind fun v13 =>
some ((((zshr v13 a1) &&& (1 : Int32)), m)))
else if a2 = (4 : Int32) then ((zrc g 0 a0 (f_X0_rules g m a0)).bind fun r14 =>
(zgr g m 0 0 a0).bind fun r15 =>
(zgr g m 1 1 r15).bind fun r16 =>
(zrc g 0 a0 (f_X0_reachesBy g m a0 r14 r16 a1)).bind fun (v17, m18) =>
some ((v17, m18)))
else if a2 = (5 : Int32) then ((zgr g m 0 0 a0).bind fun r19 =>
(zgr g m 1 1 r19).bind fun r20 =>
(zrc g 0 a0 (f_X0_bearsOf g m a0 r20 a1)).bind fun (v21, m22) =>
some ((v21, m22)))
else if a2 = (6 : Int32) then ((zgr g m 0 0 a0).bind fun r23 =>
(zgr g m 1 1 r23).bind fun r24 =>
(zrc g 0 a0 (f_X0_acrossOf g m a0 r24 a1)).bind fun v25 =>
some ((v25, m)))
else (some (((-1 : Int32), m))))
theorem hy_X0_of : zHy yX0_of 2 := ⟨by decide, by decide, by decide +kernel⟩
set_option maxHeartbeats 4000000 in
theorem ok_X0_of (l : Launch) (g : zGd) (m : zMm) (a0 : Option Nat) (a1 : Int32) (a2 : Int32) (z0 : Int32) (m0 : zMm) (h : f_X0_of g m a0 a1 a2 = some (z0, m0)) : zCT l yX0_of cX0_of 3 (some .int) 282 5951 g m [va_rf a0, .int a1, .int a2] (some (.int z0)) g m0 := by
  refine zCT.of (own := "QuiverKin") (mn := "of") (by decide +kernel) rfl rfl (zla_r (zla_i (zla_i zla_0))) (zls_r (zls_i (zls_i zls_0))) (by decide) (fun X hxl hxg hxf hxt hxr hxn => ?_)
  have Kret : ∀ (y0 : Int32) (y1 : zMm), (y0, y1) = (z0, m0) → zRe X g y1 (some (.int y0)) := by
    intro y0 y1 e; cases e; exact ⟨hxf, hxr, hxn⟩
  subst hxl
  show zG X cX0_of 3 "QuiverKin" "of" 282 5951 0 [(0, va_rf a0), (1, .int a1), (2, .int a2)] [] g m
  unfold f_X0_of at h
  refine g_aload_n dX0_of_0 0 rfl ?_
  refine g_iload_n dX0_of_1 1 rfl ?_
  refine g_cVRv (rv := fun x : Int32 => Value.int x) [.int a1] (fun x0 e0 => ok_X0_isKin (xl X) g m a0 a1 x0 e0) zc0 (by decide) (lw_V q893 q895 qs25 q123 q896) rfl hy_X0_isKin rfl ⟨by decide, by decide⟩ rfl zc_0 (by decide) dX0_of_2 h (fun v1 h => ?_)
  refine g_if_ne 10 dX0_of_5 (by decide) (fun c => ?_) (fun c => ?_)
  · have h := zite_n h c
    refine g_iload_n dX0_of_10 2 rfl ?_
    rcases Decidable.em (a2 = (0 : Int32)) with c | c0
    · have h := zite_p h c
      refine g_tsw (v := (0 : Int32)) (off := 41) 52 dX0_of_11 c (by decide) (by decide) (by decide) (by decide) ?_
      refine g_aload_n dX0_of_52 0 rfl ?_
      refine gf_r zfd_0_0 q239  (fun _ h9 => h9) dX0_of_53 h (fun r2 h => ?_)
      refine gf_rN zfd_1_2 q181  (fun _ h9 => h9) dX0_of_56 h (fun r3 h => ?_)
      refine g_iload_n dX0_of_59 1 rfl ?_
      refine g_iald dX0_of_60 h (fun v4 h => ?_)
      refine g_iret dX0_of_61 hxt ?_
      have e := Option.some.inj h
      exact Kret _ _ e
    have h := zite_n h c0
    rcases Decidable.em (a2 = (1 : Int32)) with c | c1
    · have h := zite_p h c
      refine g_tsw (v := (1 : Int32)) (off := 51) 62 dX0_of_11 c (by decide) (by decide) (by decide) (by decide) ?_
      refine g_aload_n dX0_of_62 0 rfl ?_
      refine gf_r zfd_0_0 q239  (fun _ h9 => h9) dX0_of_63 h (fun r5 h => ?_)
      refine gf_rN zfd_1_1 q179  (fun _ h9 => h9) dX0_of_66 h (fun r6 h => ?_)
      refine g_bipush (v := (8 : Int32)) dX0_of_69 (by decide) ?_
      refine g_iload_n dX0_of_71 1 rfl ?_
      refine g_iadd dX0_of_72 ?_
      refine g_iald dX0_of_73 h (fun v7 h => ?_)
      refine g_iret dX0_of_74 hxt ?_
      have e := Option.some.inj h
      exact Kret _ _ e
    have h := zite_n h c1
    rcases Decidable.em (a2 = (2 : Int32)) with c | c2
    · have h := zite_p h c
      refine g_tsw (v := (2 : Int32)) (off := 64) 75 dX0_of_11 c (by decide) (by decide) (by decide) (by decide) ?_
      refine g_aload_n dX0_of_75 0 rfl ?_
      refine g_aload_n dX0_of_76 0 rfl ?_
      refine gf_r zfd_0_0 q239  (fun _ h9 => h9) dX0_of_77 h (fun r8 h => ?_)
      refine gf_rN zfd_1_1 q179  (fun _ h9 => h9) dX0_of_80 h (fun r9 h => ?_)
      refine g_iload_n dX0_of_83 1 rfl ?_
      refine g_cVRv (rv := fun x : Int32 => Value.int x) [va_rf r9, .int a1] (fun x0 e0 => ok_X0_seatOf (xl X) g m a0 r9 a1 x0 e0) zc0 (by decide) (lw_V q928 q930 qs28 q123 q931) rfl hy_X0_seatOf rfl ⟨by decide, by decide⟩ rfl zc_0 (by decide) dX0_of_84 h (fun v10 h => ?_)
      refine g_iret dX0_of_87 hxt ?_
      have e := Option.some.inj h
      exact Kret _ _ e
    have h := zite_n h c2
    rcases Decidable.em (a2 = (3 : Int32)) with c | c3
    · have h := zite_p h c
      refine g_tsw (v := (3 : Int32)) (off := 77) 88 dX0_of_11 c (by decide) (by decide) (by decide) (by decide) ?_
      refine g_aload_n dX0_of_88 0 rfl ?_
      refine gf_r zfd_0_0 q239  (fun _ h9 => h9) dX0_of_89 h (fun r11 h => ?_)
      refine gf_rN zfd_1_1 q179  (fun _ h9 => h9) dX0_of_92 h (fun r12 h => ?_)
      refine g_bipush (v := (14 : Int32)) dX0_of_95 (by decide) ?_
      refine g_iald dX0_of_97 h (fun v13 h => ?_)
      refine g_iload_n dX0_of_98 1 rfl ?_
      refine g_ishr dX0_of_99 ?_
      refine g_iconst (v := (1 : Int32)) dX0_of_100 (by decide) ?_
      refine g_iand dX0_of_101 ?_
      refine g_iret dX0_of_102 hxt ?_
      have e := Option.some.inj h
      exact Kret _ _ e
    have h := zite_n h c3
    rcases Decidable.em (a2 = (4 : Int32)) with c | c4
    · have h := zite_p h c
      refine g_tsw (v := (4 : Int32)) (off := 92) 103 dX0_of_11 c (by decide) (by decide) (by decide) (by decide) ?_
      refine g_aload_n dX0_of_103 0 rfl ?_
      refine g_aload_n dX0_of_104 0 rfl ?_
      refine g_cVRv (rv := fun x : Option Nat => va_rf x) [] (fun x0 e0 => ok_X0_rules (xl X) g m a0 x0 e0) zc0 (by decide) (lw_V q946 q948 qs30 q123 q949) rfl hy_X0_rules rfl ⟨by decide, by decide⟩ rfl (zc_r zc_0) (by decide) dX0_of_105 h (fun r14 h => ?_)
      refine g_aload_n dX0_of_108 0 rfl ?_
      refine gf_r zfd_0_0 q239  (fun _ h9 => h9) dX0_of_109 h (fun r15 h => ?_)
      refine gf_rN zfd_1_1 q179  (fun _ h9 => h9) dX0_of_112 h (fun r16 h => ?_)
      refine g_iload_n dX0_of_115 1 rfl ?_
      refine g_cVMv (rv := fun x : Int32 => Value.int x) [va_rf r14, va_rf r16, .int a1] (fun x0 m0 e0 => ok_X0_reachesBy (xl X) g m a0 r14 r16 a1 x0 m0 e0) zc0 (by decide) (lw_V q952 q954 qs31 q123 q955) rfl hy_X0_reachesBy rfl ⟨by decide, by decide⟩ rfl zc_0 (by decide) dX0_of_116 h (fun v17 m18 h => ?_)
      refine g_iret dX0_of_119 hxt ?_
      have e := Option.some.inj h
      exact Kret _ _ e
    have h := zite_n h c4
    rcases Decidable.em (a2 = (5 : Int32)) with c | c5
    · have h := zite_p h c
      refine g_tsw (v := (5 : Int32)) (off := 109) 120 dX0_of_11 c (by decide) (by decide) (by decide) (by decide) ?_
      refine g_aload_n dX0_of_120 0 rfl ?_
      refine g_aload_n dX0_of_121 0 rfl ?_
      refine gf_r zfd_0_0 q239  (fun _ h9 => h9) dX0_of_122 h (fun r19 h => ?_)
      refine gf_rN zfd_1_1 q179  (fun _ h9 => h9) dX0_of_125 h (fun r20 h => ?_)
      refine g_iload_n dX0_of_128 1 rfl ?_
      refine g_cVMv (rv := fun x : Int32 => Value.int x) [va_rf r20, .int a1] (fun x0 m0 e0 => ok_X0_bearsOf (xl X) g m a0 r20 a1 x0 m0 e0) zc0 (by decide) (lw_V q1078 q1080 qs35 q123 q1081) rfl hy_X0_bearsOf rfl ⟨by decide, by decide⟩ rfl zc_0 (by decide) dX0_of_129 h (fun v21 m22 h => ?_)
      refine g_iret dX0_of_132 hxt ?_
      have e := Option.some.inj h
      exact Kret _ _ e
    have h := zite_n h c5
    rcases Decidable.em (a2 = (6 : Int32)) with c | c6
    · have h := zite_p h c
      refine g_tsw (v := (6 : Int32)) (off := 122) 133 dX0_of_11 c (by decide) (by decide) (by decide) (by decide) ?_
      refine g_aload_n dX0_of_133 0 rfl ?_
      refine g_aload_n dX0_of_134 0 rfl ?_
      refine gf_r zfd_0_0 q239  (fun _ h9 => h9) dX0_of_135 h (fun r23 h => ?_)
      refine gf_rN zfd_1_1 q179  (fun _ h9 => h9) dX0_of_138 h (fun r24 h => ?_)
      refine g_iload_n dX0_of_141 1 rfl ?_
      refine g_cVRv (rv := fun x : Int32 => Value.int x) [va_rf r24, .int a1] (fun x0 e0 => ok_X0_acrossOf (xl X) g m a0 r24 a1 x0 e0) zc0 (by decide) (lw_V q960 q962 qs33 q123 q963) rfl hy_X0_acrossOf rfl ⟨by decide, by decide⟩ rfl zc_0 (by decide) dX0_of_142 h (fun v25 h => ?_)
      refine g_iret dX0_of_145 hxt ?_
      have e := Option.some.inj h
      exact Kret _ _ e
    have h := zite_n h c6
    refine g_tswG (n := 7) (vs := [(0 : Int32), (1 : Int32), (2 : Int32), (3 : Int32), (4 : Int32), (5 : Int32), (6 : Int32)]) 146 dX0_of_11 (List.forall_mem_cons.mpr ⟨c0, List.forall_mem_cons.mpr ⟨c1, List.forall_mem_cons.mpr ⟨c2, List.forall_mem_cons.mpr ⟨c3, List.forall_mem_cons.mpr ⟨c4, List.forall_mem_cons.mpr ⟨c5, List.forall_mem_cons.mpr ⟨c6, fun _ h9 => absurd h9 List.not_mem_nil⟩⟩⟩⟩⟩⟩⟩) (by decide) (by decide) (by decide) ?_
    refine g_iconst (v := (-1 : Int32)) dX0_of_146 (by decide) ?_
    refine g_iret dX0_of_147 hxt ?_
    have e := Option.some.inj h
    exact Kret _ _ e
  · have h := zite_p h c
    refine g_iconst (v := (-1 : Int32)) dX0_of_8 (by decide) ?_
    refine g_iret dX0_of_9 hxt ?_
    have e := Option.some.inj h
    exact Kret _ _ e
/-! QuiverKin.at -/
def f_X0_at (g : zGd) (m : zMm) (a0 : Option Nat) (a1 : Int32) : Option (Int32) :=
(zrc g 0 a0 (f_X0_isKin g m a0 a1)).bind fun v1 =>
if v1 = 0 then (some ((-1 : Int32)))
else ((zgr g m 0 0 a0).bind fun r2 =>
(zgr g m 1 1 r2).bind fun r3 =>
(zald 101 g m r3 ((2 : Int32) + a1)).bind fun v4 =>
some (v4))
theorem hy_X0_at : zHy yX0_at 1 := ⟨by decide, by decide, by decide +kernel⟩
set_option maxHeartbeats 4000000 in
theorem ok_X0_at (l : Launch) (g : zGd) (m : zMm) (a0 : Option Nat) (a1 : Int32) (z0 : Int32) (h : f_X0_at g m a0 a1 = some z0) : zCT l yX0_at cX0_at 2 (some .int) 3 63 g m [va_rf a0, .int a1] (some (.int z0)) g m := by
  refine zCT.of (own := "QuiverKin") (mn := "at") (by decide +kernel) rfl rfl (zla_r (zla_i zla_0)) (zls_r (zls_i zls_0)) (by decide) (fun X hxl hxg hxf hxt hxr hxn => ?_)
  have Kret : ∀ (y0 : Int32), y0 = z0 → zRe X g m (some (.int y0)) := by
    intro y0 e; cases e; exact ⟨hxf, hxr, hxn⟩
  subst hxl
  show zG X cX0_at 2 "QuiverKin" "at" 3 63 0 [(0, va_rf a0), (1, .int a1)] [] g m
  unfold f_X0_at at h
  refine g_aload_n dX0_at_0 0 rfl ?_
  refine g_iload_n dX0_at_1 1 rfl ?_
  refine g_cVRv (rv := fun x : Int32 => Value.int x) [.int a1] (fun x0 e0 => ok_X0_isKin (xl X) g m a0 a1 x0 e0) zc0 (by decide) (lw_V q893 q895 qs25 q123 q896) rfl hy_X0_isKin rfl ⟨by decide, by decide⟩ rfl zc_0 (by decide) dX0_at_2 h (fun v1 h => ?_)
  refine g_if_eq 22 dX0_at_5 (by decide) (fun c => ?_) (fun c => ?_)
  · have h := zite_p h c
    refine g_iconst (v := (-1 : Int32)) dX0_at_22 (by decide) ?_
    refine g_iret dX0_at_23 hxt ?_
    have e := Option.some.inj h
    exact Kret _ e
  · have h := zite_n h c
    refine g_aload_n dX0_at_8 0 rfl ?_
    refine gf_r zfd_0_0 q239  (fun _ h9 => h9) dX0_at_9 h (fun r2 h => ?_)
    refine gf_rN zfd_1_1 q179  (fun _ h9 => h9) dX0_at_12 h (fun r3 h => ?_)
    refine g_iconst (v := (2 : Int32)) dX0_at_15 (by decide) ?_
    refine g_iload_n dX0_at_16 1 rfl ?_
    refine g_iadd dX0_at_17 ?_
    refine g_iald dX0_at_18 h (fun v4 h => ?_)
    refine g_goto 23 dX0_at_19 (by decide) ?_
    refine g_iret dX0_at_23 hxt ?_
    have e := Option.some.inj h
    exact Kret _ e
/-! QuiverKin.keptOfAll -/
def b_X0_keptOfAll_4 (g : zGd) (m : zMm) (a0 : Option Nat) : Int32 × Int32 → Option ((Int32) ⊕ (Int32 × Int32)) := fun (v4, v5) =>
(zrc g 0 a0 (f_X0_many g m a0)).bind fun v6 =>
if v6 ≤ v5 then (some (.inl v4))
else ((zgr g m 0 0 a0).bind fun r7 =>
(zgr g m 1 1 r7).bind fun r8 =>
(zald 101 g m r8 ((8 : Int32) + v5)).bind fun v9 =>
zlt (v4 + v9) fun v10 =>
zlt (v5 + (1 : Int32)) fun v11 =>
some (.inr (v10, v11)))
def f_X0_keptOfAll (g : zGd) (m : zMm) (a0 : Option Nat) : Option (Int32) :=
(zLoop (b_X0_keptOfAll_4 g m a0) zFuel ((0 : Int32), (0 : Int32))).bind fun v2 =>
some (v2)
theorem hy_X0_keptOfAll : zHy yX0_keptOfAll 0 := ⟨by decide, by decide, by decide +kernel⟩
set_option maxHeartbeats 4000000 in
theorem ok_X0_keptOfAll (l : Launch) (g : zGd) (m : zMm) (a0 : Option Nat) (z0 : Int32) (h : f_X0_keptOfAll g m a0 = some z0) : zCT l yX0_keptOfAll cX0_keptOfAll 3 (some .int) 2 40 g m [va_rf a0] (some (.int z0)) g m := by
  refine zCT.of (own := "QuiverKin") (mn := "keptOfAll") (by decide +kernel) rfl rfl (zla_r zla_0) (zls_r zls_0) (by decide) (fun X hxl hxg hxf hxt hxr hxn => ?_)
  have Kret : ∀ (y0 : Int32), y0 = z0 → zRe X g m (some (.int y0)) := by
    intro y0 e; cases e; exact ⟨hxf, hxr, hxn⟩
  subst hxl
  show zG X cX0_keptOfAll 3 "QuiverKin" "keptOfAll" 2 40 0 [(0, va_rf a0)] [] g m
  unfold f_X0_keptOfAll at h
  refine g_iconst (v := (0 : Int32)) dX0_keptOfAll_0 (by decide) ?_
  refine g_istore_n [(1, .int (0 : Int32)), (0, va_rf a0)] dX0_keptOfAll_1 (by decide) (zf_r zf_0) rfl ?_
  refine g_iconst (v := (0 : Int32)) dX0_keptOfAll_2 (by decide) ?_
  refine g_istore_n [(2, .int (0 : Int32)), (1, .int (0 : Int32)), (0, va_rf a0)] dX0_keptOfAll_3 (by decide) (zf_i (zf_r zf_0)) rfl ?_
  obtain ⟨o1, h1, h2⟩ := zB_e h
  have K1 : ∀ (v2 : Int32), o1 = v2 → zG X cX0_keptOfAll 3 "QuiverKin" "keptOfAll" 2 40 33 [(1, .int v2)] [] g m := by
    intro v2 e
    rw [e] at h2
    have h := h2
    refine g_iload_n dX0_keptOfAll_33 0 rfl ?_
    refine g_iret dX0_keptOfAll_34 hxt ?_
    have e := Option.some.inj h
    exact Kret _ e
  refine zG.sub [2, 1, 0] rfl ?_
  refine zLoop_ok (Φ := (fun (q : Int32 × Int32) => match q with | (v4, v5) => zG X cX0_keptOfAll 3 "QuiverKin" "keptOfAll" 2 40 4 [(0, va_rf a0), (1, .int v4), (2, .int v5)] [] g m)) o1 ?_ zFuel _ h1
  rintro ⟨v4, v5⟩ x3 h hl3 hr3
  unfold b_X0_keptOfAll_4 at h
  have K3 : ∀ (v4 : Int32) (v5 : Int32), x3 = .inr (v4, v5) → zG X cX0_keptOfAll 3 "QuiverKin" "keptOfAll" 2 40 4 [(0, va_rf a0), (1, .int v4), (2, .int v5)] [] g m := by
    intro v4 v5 e
    exact hr3 _ e
  show zG X cX0_keptOfAll 3 "QuiverKin" "keptOfAll" 2 40 4 [(0, va_rf a0), (1, .int v4), (2, .int v5)] [] g m
  refine g_iload_n dX0_keptOfAll_4 2 rfl ?_
  refine g_aload_n dX0_keptOfAll_5 0 rfl ?_
  refine g_cVRv (rv := fun x : Int32 => Value.int x) [] (fun x0 e0 => ok_X0_many (xl X) g m a0 x0 e0) zc0 (by decide) (lw_V q308 q310 qs0 q123 q311) rfl hy_X0_many rfl ⟨by decide, by decide⟩ rfl (zc_i zc_0) (by decide) dX0_keptOfAll_6 h (fun v6 h => ?_)
  refine g_icmp_ge 33 dX0_keptOfAll_9 (by decide) (fun c => ?_) (fun c => ?_)
  · have h := zite_p h c
    refine zG.sub [1] rfl ?_
    have e := Option.some.inj h
    have e := hl3 _ e.symm
    exact K1 _ e.symm
  · have h := zite_n h c
    refine g_iload_n dX0_keptOfAll_12 1 rfl ?_
    refine g_aload_n dX0_keptOfAll_13 0 rfl ?_
    refine gf_r zfd_0_0 q239  (fun _ h9 => h9) dX0_keptOfAll_14 h (fun r7 h => ?_)
    refine gf_rN zfd_1_1 q179  (fun _ h9 => h9) dX0_keptOfAll_17 h (fun r8 h => ?_)
    refine g_bipush (v := (8 : Int32)) dX0_keptOfAll_20 (by decide) ?_
    refine g_iload_n dX0_keptOfAll_22 2 rfl ?_
    refine g_iadd dX0_keptOfAll_23 ?_
    refine g_iald dX0_keptOfAll_24 h (fun v9 h => ?_)
    refine g_iadd dX0_keptOfAll_25 ?_
    refine g_leti h (fun v10 h => ?_)
    refine g_istore_n [(1, .int v10), (0, va_rf a0), (2, .int v5)] dX0_keptOfAll_26 (by decide) (zf_r (zf_i (zf_i zf_0))) rfl ?_
    refine g_iinc (v := (1 : Int32)) [(1, .int v10), (0, va_rf a0)] dX0_keptOfAll_27 2 rfl (by decide) (by decide) (zf_i (zf_r (zf_i zf_0))) rfl h (fun v11 h => ?_)
    refine g_goto 4 dX0_keptOfAll_30 (by decide) ?_
    refine zG.sub [2, 1, 0] rfl ?_
    have e := Option.some.inj h
    exact K3 _ _ e.symm
/-! QuiverKin.is -/
def f_X0_is (g : zGd) (m : zMm) (a0 : Option Nat) (a1 : Int32) : Option (Int32) :=
if a1 = (0 : Int32) then ((zgr g m 0 0 a0).bind fun r1 =>
(zgr g m 1 1 r1).bind fun r2 =>
(zald 101 g m r2 (0 : Int32)).bind fun v3 =>
some (v3))
else if a1 = (1 : Int32) then ((zgr g m 0 0 a0).bind fun r4 =>
(zgr g m 1 1 r4).bind fun r5 =>
(zald 101 g m r5 (1 : Int32)).bind fun v6 =>
some (v6))
else if a1 = (2 : Int32) then ((zrc g 0 a0 (f_X0_keptOfAll g m a0)).bind fun v7 =>
some (v7))
else if a1 = (3 : Int32) then ((zgr g m 0 0 a0).bind fun r8 =>
(zgr g m 1 1 r8).bind fun r9 =>
(zald 101 g m r9 (14 : Int32)).bind fun v10 =>
some (v10))
else (some ((-2 : Int32)))
theorem hy_X0_is : zHy yX0_is 1 := ⟨by decide, by decide, by decide +kernel⟩
set_option maxHeartbeats 4000000 in
theorem ok_X0_is (l : Launch) (g : zGd) (m : zMm) (a0 : Option Nat) (a1 : Int32) (z0 : Int32) (h : f_X0_is g m a0 a1 = some z0) : zCT l yX0_is cX0_is 2 (some .int) 3 62 g m [va_rf a0, .int a1] (some (.int z0)) g m := by
  refine zCT.of (own := "QuiverKin") (mn := "is") (by decide +kernel) rfl rfl (zla_r (zla_i zla_0)) (zls_r (zls_i zls_0)) (by decide) (fun X hxl hxg hxf hxt hxr hxn => ?_)
  have Kret : ∀ (y0 : Int32), y0 = z0 → zRe X g m (some (.int y0)) := by
    intro y0 e; cases e; exact ⟨hxf, hxr, hxn⟩
  subst hxl
  show zG X cX0_is 2 "QuiverKin" "is" 3 62 0 [(0, va_rf a0), (1, .int a1)] [] g m
  unfold f_X0_is at h
  refine g_iload_n dX0_is_0 1 rfl ?_
  rcases Decidable.em (a1 = (0 : Int32)) with c | c0
  · have h := zite_p h c
    refine g_tsw (v := (0 : Int32)) (off := 31) 32 dX0_is_1 c (by decide) (by decide) (by decide) (by decide) ?_
    refine g_aload_n dX0_is_32 0 rfl ?_
    refine gf_r zfd_0_0 q239  (fun _ h9 => h9) dX0_is_33 h (fun r1 h => ?_)
    refine gf_rN zfd_1_1 q179  (fun _ h9 => h9) dX0_is_36 h (fun r2 h => ?_)
    refine g_iconst (v := (0 : Int32)) dX0_is_39 (by decide) ?_
    refine g_iald dX0_is_40 h (fun v3 h => ?_)
    refine g_iret dX0_is_41 hxt ?_
    have e := Option.some.inj h
    exact Kret _ e
  have h := zite_n h c0
  rcases Decidable.em (a1 = (1 : Int32)) with c | c1
  · have h := zite_p h c
    refine g_tsw (v := (1 : Int32)) (off := 41) 42 dX0_is_1 c (by decide) (by decide) (by decide) (by decide) ?_
    refine g_aload_n dX0_is_42 0 rfl ?_
    refine gf_r zfd_0_0 q239  (fun _ h9 => h9) dX0_is_43 h (fun r4 h => ?_)
    refine gf_rN zfd_1_1 q179  (fun _ h9 => h9) dX0_is_46 h (fun r5 h => ?_)
    refine g_iconst (v := (1 : Int32)) dX0_is_49 (by decide) ?_
    refine g_iald dX0_is_50 h (fun v6 h => ?_)
    refine g_iret dX0_is_51 hxt ?_
    have e := Option.some.inj h
    exact Kret _ e
  have h := zite_n h c1
  rcases Decidable.em (a1 = (2 : Int32)) with c | c2
  · have h := zite_p h c
    refine g_tsw (v := (2 : Int32)) (off := 51) 52 dX0_is_1 c (by decide) (by decide) (by decide) (by decide) ?_
    refine g_aload_n dX0_is_52 0 rfl ?_
    refine g_cVRv (rv := fun x : Int32 => Value.int x) [] (fun x0 e0 => ok_X0_keptOfAll (xl X) g m a0 x0 e0) zc0 (by decide) (lw_V q1153 q1155 qs40 q123 q1156) rfl hy_X0_keptOfAll rfl ⟨by decide, by decide⟩ rfl zc_0 (by decide) dX0_is_53 h (fun v7 h => ?_)
    refine g_iret dX0_is_56 hxt ?_
    have e := Option.some.inj h
    exact Kret _ e
  have h := zite_n h c2
  rcases Decidable.em (a1 = (3 : Int32)) with c | c3
  · have h := zite_p h c
    refine g_tsw (v := (3 : Int32)) (off := 56) 57 dX0_is_1 c (by decide) (by decide) (by decide) (by decide) ?_
    refine g_aload_n dX0_is_57 0 rfl ?_
    refine gf_r zfd_0_0 q239  (fun _ h9 => h9) dX0_is_58 h (fun r8 h => ?_)
    refine gf_rN zfd_1_1 q179  (fun _ h9 => h9) dX0_is_61 h (fun r9 h => ?_)
    refine g_bipush (v := (14 : Int32)) dX0_is_64 (by decide) ?_
    refine g_iald dX0_is_66 h (fun v10 h => ?_)
    refine g_iret dX0_is_67 hxt ?_
    have e := Option.some.inj h
    exact Kret _ e
  have h := zite_n h c3
  refine g_tswG (n := 4) (vs := [(0 : Int32), (1 : Int32), (2 : Int32), (3 : Int32)]) 68 dX0_is_1 (List.forall_mem_cons.mpr ⟨c0, List.forall_mem_cons.mpr ⟨c1, List.forall_mem_cons.mpr ⟨c2, List.forall_mem_cons.mpr ⟨c3, fun _ h9 => absurd h9 List.not_mem_nil⟩⟩⟩⟩) (by decide) (by decide) (by decide) ?_
  refine g_bipush (v := (-2 : Int32)) dX0_is_68 (by decide) ?_
  refine g_iret dX0_is_70 hxt ?_
  have e := Option.some.inj h
  exact Kret _ e
/-! QuiverKin.book -/
def f_X0_book (g : zGd) (m : zMm) (a0 : Option Nat) (a1 : Int32) (a2 : Int32) : Option (Int32) :=
if a1 = (-1 : Int32) then ((zgr g m 0 0 a0).bind fun r9 =>
(zgr g m 1 1 r9).bind fun r10 =>
(zald 101 g m r10 (15 : Int32)).bind fun v11 =>
some (v11))
else ((zgr g m 0 0 a0).bind fun r1 =>
(zgr g m 1 1 r1).bind fun r2 =>
(zald 101 g m r2 (15 : Int32)).bind fun v3 =>
(f_X0_in a1 (0 : Int32) (v3 - (1 : Int32))).bind fun v4 =>
if v4 = 0 then (some ((-2 : Int32)))
else ((f_X0_in a2 (0 : Int32) (3 : Int32)).bind fun v5 =>
if v5 = 0 then (some ((-2 : Int32)))
else ((zgr g m 0 0 a0).bind fun r6 =>
(zgr g m 1 1 r6).bind fun r7 =>
(zald 101 g m r7 (((16 : Int32) + ((4 : Int32) * a1)) + a2)).bind fun v8 =>
some (v8))))
theorem hy_X0_book : zHy yX0_book 2 := ⟨by decide, by decide, by decide +kernel⟩
set_option maxHeartbeats 4000000 in
theorem ok_X0_book (l : Launch) (g : zGd) (m : zMm) (a0 : Option Nat) (a1 : Int32) (a2 : Int32) (z0 : Int32) (h : f_X0_book g m a0 a1 a2 = some z0) : zCT l yX0_book cX0_book 3 (some .int) 2 42 g m [va_rf a0, .int a1, .int a2] (some (.int z0)) g m := by
  refine zCT.of (own := "QuiverKin") (mn := "book") (by decide +kernel) rfl rfl (zla_r (zla_i (zla_i zla_0))) (zls_r (zls_i (zls_i zls_0))) (by decide) (fun X hxl hxg hxf hxt hxr hxn => ?_)
  have Kret : ∀ (y0 : Int32), y0 = z0 → zRe X g m (some (.int y0)) := by
    intro y0 e; cases e; exact ⟨hxf, hxr, hxn⟩
  subst hxl
  show zG X cX0_book 3 "QuiverKin" "book" 2 42 0 [(0, va_rf a0), (1, .int a1), (2, .int a2)] [] g m
  unfold f_X0_book at h
  refine g_iload_n dX0_book_0 1 rfl ?_
  refine g_iconst (v := (-1 : Int32)) dX0_book_1 (by decide) ?_
  refine g_icmp_ne 16 dX0_book_2 (by decide) (fun c => ?_) (fun c => ?_)
  · have h := zite_n h c
    refine g_iload_n dX0_book_16 1 rfl ?_
    refine g_iconst (v := (0 : Int32)) dX0_book_17 (by decide) ?_
    refine g_aload_n dX0_book_18 0 rfl ?_
    refine gf_r zfd_0_0 q239  (fun _ h9 => h9) dX0_book_19 h (fun r1 h => ?_)
    refine gf_rN zfd_1_1 q179  (fun _ h9 => h9) dX0_book_22 h (fun r2 h => ?_)
    refine g_bipush (v := (15 : Int32)) dX0_book_25 (by decide) ?_
    refine g_iald dX0_book_27 h (fun v3 h => ?_)
    refine g_iconst (v := (1 : Int32)) dX0_book_28 (by decide) ?_
    refine g_isub dX0_book_29 ?_
    refine g_cSRv (rv := fun x : Int32 => Value.int x) [.int a1, .int (0 : Int32), .int (v3 - (1 : Int32))] (fun x0 e0 => ok_X0_in (xl X) g m a1 (0 : Int32) (v3 - (1 : Int32)) x0 e0) (lw_S q312 q313 q123 q314) hy_X0_in rfl ⟨by decide, by decide⟩ rfl zc_0 (by decide) dX0_book_30 h (fun v4 h => ?_)
    refine g_if_eq 64 dX0_book_33 (by decide) (fun c => ?_) (fun c => ?_)
    · have h := zite_p h c
      refine g_bipush (v := (-2 : Int32)) dX0_book_64 (by decide) ?_
      refine g_iret dX0_book_66 hxt ?_
      have e := Option.some.inj h
      exact Kret _ e
    · have h := zite_n h c
      refine g_iload_n dX0_book_36 2 rfl ?_
      refine g_iconst (v := (0 : Int32)) dX0_book_37 (by decide) ?_
      refine g_iconst (v := (3 : Int32)) dX0_book_38 (by decide) ?_
      refine g_cSRv (rv := fun x : Int32 => Value.int x) [.int a2, .int (0 : Int32), .int (3 : Int32)] (fun x0 e0 => ok_X0_in (xl X) g m a2 (0 : Int32) (3 : Int32) x0 e0) (lw_S q312 q313 q123 q314) hy_X0_in rfl ⟨by decide, by decide⟩ rfl zc_0 (by decide) dX0_book_39 h (fun v5 h => ?_)
      refine g_if_eq 64 dX0_book_42 (by decide) (fun c => ?_) (fun c => ?_)
      · have h := zite_p h c
        refine g_bipush (v := (-2 : Int32)) dX0_book_64 (by decide) ?_
        refine g_iret dX0_book_66 hxt ?_
        have e := Option.some.inj h
        exact Kret _ e
      · have h := zite_n h c
        refine g_aload_n dX0_book_45 0 rfl ?_
        refine gf_r zfd_0_0 q239  (fun _ h9 => h9) dX0_book_46 h (fun r6 h => ?_)
        refine gf_rN zfd_1_1 q179  (fun _ h9 => h9) dX0_book_49 h (fun r7 h => ?_)
        refine g_bipush (v := (16 : Int32)) dX0_book_52 (by decide) ?_
        refine g_iconst (v := (4 : Int32)) dX0_book_54 (by decide) ?_
        refine g_iload_n dX0_book_55 1 rfl ?_
        refine g_imul dX0_book_56 ?_
        refine g_iadd dX0_book_57 ?_
        refine g_iload_n dX0_book_58 2 rfl ?_
        refine g_iadd dX0_book_59 ?_
        refine g_iald dX0_book_60 h (fun v8 h => ?_)
        refine g_goto 66 dX0_book_61 (by decide) ?_
        refine g_iret dX0_book_66 hxt ?_
        have e := Option.some.inj h
        exact Kret _ e
  · have h := zite_p h c
    refine g_aload_n dX0_book_5 0 rfl ?_
    refine gf_r zfd_0_0 q239  (fun _ h9 => h9) dX0_book_6 h (fun r9 h => ?_)
    refine gf_rN zfd_1_1 q179  (fun _ h9 => h9) dX0_book_9 h (fun r10 h => ?_)
    refine g_bipush (v := (15 : Int32)) dX0_book_12 (by decide) ?_
    refine g_iald dX0_book_14 h (fun v11 h => ?_)
    refine g_iret dX0_book_15 hxt ?_
    have e := Option.some.inj h
    exact Kret _ e
/-! QuiverKin.foretold -/
def b_X0_foretold_39 (g : zGd) (a0 : Option Nat) (a1 : Int32) : Int32 × Int32 × zMm → Option ((zMm) ⊕ (Int32 × Int32 × zMm)) := fun (v10, v11, m12) =>
if a1 ≤ v11 then (some (.inl m12))
else ((zgr g m12 0 7 a0).bind fun r13 =>
(zald 101 g m12 r13 (0 : Int32)).bind fun v14 =>
if (9999 : Int32) ≤ v14 then (some (.inl m12))
else ((zgr g m12 0 7 a0).bind fun r15 =>
(zrc g 0 a0 (f_X0_passes g m12 a0 r15)).bind fun (v16, m17) =>
zlt (v10 + v16) fun v18 =>
zlt (v11 + (1 : Int32)) fun v19 =>
some (.inr (v18, v19, m17))))
def f_X0_foretold (g : zGd) (m : zMm) (a0 : Option Nat) (a1 : Int32) (a2 : Int32) : Option (Int32 × zMm) :=
(f_X0_in a1 (1 : Int32) (60 : Int32)).bind fun v1 =>
if v1 = 0 then (some (((-1 : Int32), m)))
else ((zrc g 0 a0 (f_X0_isKin g m a0 a2)).bind fun v2 =>
if v2 = 0 then (some (((-1 : Int32), m)))
else ((zgr g m 0 0 a0).bind fun r3 =>
(zgr g m 1 1 r3).bind fun r4 =>
(zgr g m 0 7 a0).bind fun r5 =>
(f_X1_copy g m r4 r5).bind fun m6 =>
(zLoop (b_X0_foretold_39 g a0 a1) zFuel ((0 : Int32), (0 : Int32), m6)).bind fun m8 =>
(zgr g m8 0 7 a0).bind fun r20 =>
(zald 101 g m8 r20 ((8 : Int32) + a2)).bind fun v21 =>
some ((v21, m8))))
theorem hy_X0_foretold : zHy yX0_foretold 2 := ⟨by decide, by decide, by decide +kernel⟩
set_option maxHeartbeats 4000000 in
theorem ok_X0_foretold (l : Launch) (g : zGd) (m : zMm) (a0 : Option Nat) (a1 : Int32) (a2 : Int32) (z0 : Int32) (m0 : zMm) (h : f_X0_foretold g m a0 a1 a2 = some (z0, m0)) : zCT l yX0_foretold cX0_foretold 5 (some .int) 283 5975 g m [va_rf a0, .int a1, .int a2] (some (.int z0)) g m0 := by
  refine zCT.of (own := "QuiverKin") (mn := "foretold") (by decide +kernel) rfl rfl (zla_r (zla_i (zla_i zla_0))) (zls_r (zls_i (zls_i zls_0))) (by decide) (fun X hxl hxg hxf hxt hxr hxn => ?_)
  have Kret : ∀ (y0 : Int32) (y1 : zMm), (y0, y1) = (z0, m0) → zRe X g y1 (some (.int y0)) := by
    intro y0 y1 e; cases e; exact ⟨hxf, hxr, hxn⟩
  subst hxl
  show zG X cX0_foretold 5 "QuiverKin" "foretold" 283 5975 0 [(0, va_rf a0), (1, .int a1), (2, .int a2)] [] g m
  unfold f_X0_foretold at h
  refine g_iload_n dX0_foretold_0 1 rfl ?_
  refine g_iconst (v := (1 : Int32)) dX0_foretold_1 (by decide) ?_
  refine g_bipush (v := (60 : Int32)) dX0_foretold_2 (by decide) ?_
  refine g_cSRv (rv := fun x : Int32 => Value.int x) [.int a1, .int (1 : Int32), .int (60 : Int32)] (fun x0 e0 => ok_X0_in (xl X) g m a1 (1 : Int32) (60 : Int32) x0 e0) (lw_S q312 q313 q123 q314) hy_X0_in rfl ⟨by decide, by decide⟩ rfl zc_0 (by decide) dX0_foretold_4 h (fun v1 h => ?_)
  refine g_if_eq 18 dX0_foretold_7 (by decide) (fun c => ?_) (fun c => ?_)
  · have h := zite_p h c
    refine g_iconst (v := (-1 : Int32)) dX0_foretold_18 (by decide) ?_
    refine g_iret dX0_foretold_19 hxt ?_
    have e := Option.some.inj h
    exact Kret _ _ e
  · have h := zite_n h c
    refine g_aload_n dX0_foretold_10 0 rfl ?_
    refine g_iload_n dX0_foretold_11 2 rfl ?_
    refine g_cVRv (rv := fun x : Int32 => Value.int x) [.int a2] (fun x0 e0 => ok_X0_isKin (xl X) g m a0 a2 x0 e0) zc0 (by decide) (lw_V q893 q895 qs25 q123 q896) rfl hy_X0_isKin rfl ⟨by decide, by decide⟩ rfl zc_0 (by decide) dX0_foretold_12 h (fun v2 h => ?_)
    refine g_if_ne 20 dX0_foretold_15 (by decide) (fun c => ?_) (fun c => ?_)
    · have h := zite_n h c
      refine g_aload_n dX0_foretold_20 0 rfl ?_
      refine gf_r zfd_0_0 q239  (fun _ h9 => h9) dX0_foretold_21 h (fun r3 h => ?_)
      refine gf_rN zfd_1_1 q179  (fun _ h9 => h9) dX0_foretold_24 h (fun r4 h => ?_)
      refine g_aload_n dX0_foretold_27 0 rfl ?_
      refine gf_r zfd_0_7 q246  (fun _ h9 => h9) dX0_foretold_28 h (fun r5 h => ?_)
      refine g_cSNMn [va_rf r4, va_rf r5] (fun m0 e0 => ok_X1_copy (xl X) g m r4 r5 m0 e0) (lw_meth q232) q124 q1140 q231 hy_X1_copy rfl ⟨by decide, by decide⟩ rfl zc_0 (by decide) dX0_foretold_31 h (fun m6 h => ?_)
      refine g_iconst (v := (0 : Int32)) dX0_foretold_34 (by decide) ?_
      refine g_istore_n [(3, .int (0 : Int32)), (0, va_rf a0), (1, .int a1), (2, .int a2)] dX0_foretold_35 (by decide) (zf_r (zf_i (zf_i zf_0))) rfl ?_
      refine g_iconst (v := (0 : Int32)) dX0_foretold_36 (by decide) ?_
      refine g_istore [(4, .int (0 : Int32)), (3, .int (0 : Int32)), (0, va_rf a0), (1, .int a1), (2, .int a2)] dX0_foretold_37 (by decide) (zf_i (zf_r (zf_i (zf_i zf_0)))) rfl ?_
      obtain ⟨o7, h1, h2⟩ := zB_e h
      have K7 : ∀ (m8 : zMm), o7 = m8 → zG X cX0_foretold 5 "QuiverKin" "foretold" 283 5975 74 [(0, va_rf a0), (2, .int a2)] [] g m8 := by
        intro m8 e
        rw [e] at h2
        have h := h2
        refine g_aload_n dX0_foretold_74 0 rfl ?_
        refine gf_r zfd_0_7 q246  (fun _ h9 => h9) dX0_foretold_75 h (fun r20 h => ?_)
        refine g_bipush (v := (8 : Int32)) dX0_foretold_78 (by decide) ?_
        refine g_iload_n dX0_foretold_80 1 rfl ?_
        refine g_iadd dX0_foretold_81 ?_
        refine g_iald dX0_foretold_82 h (fun v21 h => ?_)
        refine g_iret dX0_foretold_83 hxt ?_
        have e := Option.some.inj h
        exact Kret _ _ e
      refine zG.sub [2, 3, 4, 1, 0] rfl ?_
      refine zLoop_ok (Φ := (fun (q : Int32 × Int32 × zMm) => match q with | (v10, v11, m12) => zG X cX0_foretold 5 "QuiverKin" "foretold" 283 5975 39 [(0, va_rf a0), (1, .int a1), (2, .int a2), (3, .int v10), (4, .int v11)] [] g m12)) o7 ?_ zFuel _ h1
      rintro ⟨v10, v11, m12⟩ x9 h hl9 hr9
      unfold b_X0_foretold_39 at h
      have K9 : ∀ (v10 : Int32) (v11 : Int32) (m12 : zMm), x9 = .inr (v10, v11, m12) → zG X cX0_foretold 5 "QuiverKin" "foretold" 283 5975 39 [(0, va_rf a0), (1, .int a1), (2, .int a2), (3, .int v10), (4, .int v11)] [] g m12 := by
        intro v10 v11 m12 e
        exact hr9 _ e
      show zG X cX0_foretold 5 "QuiverKin" "foretold" 283 5975 39 [(0, va_rf a0), (1, .int a1), (2, .int a2), (3, .int v10), (4, .int v11)] [] g m12
      refine g_iload dX0_foretold_39 4 rfl ?_
      refine g_iload_n dX0_foretold_41 1 rfl ?_
      refine g_icmp_ge 74 dX0_foretold_42 (by decide) (fun c => ?_) (fun c => ?_)
      · have h := zite_p h c
        refine zG.sub [0, 2] rfl ?_
        have e := Option.some.inj h
        have e := hl9 _ e.symm
        exact K7 _ e.symm
      · have h := zite_n h c
        refine g_aload_n dX0_foretold_45 0 rfl ?_
        refine gf_r zfd_0_7 q246  (fun _ h9 => h9) dX0_foretold_46 h (fun r13 h => ?_)
        refine g_iconst (v := (0 : Int32)) dX0_foretold_49 (by decide) ?_
        refine g_iald dX0_foretold_50 h (fun v14 h => ?_)
        refine g_sipush (v := (9999 : Int32)) dX0_foretold_51 (by decide) ?_
        refine g_icmp_ge 74 dX0_foretold_54 (by decide) (fun c => ?_) (fun c => ?_)
        · have h := zite_p h c
          refine zG.sub [0, 2] rfl ?_
          have e := Option.some.inj h
          have e := hl9 _ e.symm
          exact K7 _ e.symm
        · have h := zite_n h c
          refine g_iload_n dX0_foretold_57 3 rfl ?_
          refine g_aload_n dX0_foretold_58 0 rfl ?_
          refine g_aload_n dX0_foretold_59 0 rfl ?_
          refine gf_r zfd_0_7 q246  (fun _ h9 => h9) dX0_foretold_60 h (fun r15 h => ?_)
          refine g_cVMv (rv := fun x : Int32 => Value.int x) [va_rf r15] (fun x0 m0 e0 => ok_X0_passes (xl X) g m12 a0 r15 x0 m0 e0) zc0 (by decide) (lw_V q939 q941 qs29 q123 q942) rfl hy_X0_passes rfl ⟨by decide, by decide⟩ rfl (zc_i zc_0) (by decide) dX0_foretold_63 h (fun v16 m17 h => ?_)
          refine g_iadd dX0_foretold_66 ?_
          refine g_leti h (fun v18 h => ?_)
          refine g_istore_n [(3, .int v18), (0, va_rf a0), (1, .int a1), (2, .int a2), (4, .int v11)] dX0_foretold_67 (by decide) (zf_r (zf_i (zf_i (zf_i (zf_i zf_0))))) rfl ?_
          refine g_iinc (v := (1 : Int32)) [(3, .int v18), (0, va_rf a0), (1, .int a1), (2, .int a2)] dX0_foretold_68 4 rfl (by decide) (by decide) (zf_i (zf_r (zf_i (zf_i (zf_i zf_0))))) rfl h (fun v19 h => ?_)
          refine g_goto 39 dX0_foretold_71 (by decide) ?_
          refine zG.sub [2, 3, 4, 1, 0] rfl ?_
          have e := Option.some.inj h
          exact K9 _ _ _ e.symm
    · have h := zite_p h c
      refine g_iconst (v := (-1 : Int32)) dX0_foretold_18 (by decide) ?_
      refine g_iret dX0_foretold_19 hxt ?_
      have e := Option.some.inj h
      exact Kret _ _ e
/-! QuiverKin.spite -/
def f_X0_spite (g : zGd) (m : zMm) (a0 : Option Nat) (a1 : Int32) (a2 : Int32) (a3 : Int32) : Option (Int32 × zMm) :=
(zrc g 0 a0 (f_X0_canSwap g m a0 a1 a2)).bind fun v1 =>
if v1 = 0 then (some (((0 : Int32), m)))
else ((f_X0_in a3 (0 : Int32) (99 : Int32)).bind fun v2 =>
if v2 = 0 then (some (((0 : Int32), m)))
else ((zgr g m 0 0 a0).bind fun r3 =>
(zgr g m 1 6 r3).bind fun r4 =>
(zaldr 106 g m r4 a1).bind fun r5 =>
(zast 101 g m r5 a2 a3).bind fun m6 =>
(zgr g m6 0 0 a0).bind fun r7 =>
(zgr g m6 1 6 r7).bind fun r8 =>
(zaldr 106 g m6 r8 a2).bind fun r9 =>
(zast 101 g m6 r9 a1 a3).bind fun m10 =>
some (((1 : Int32), m10))))
theorem hy_X0_spite : zHy yX0_spite 3 := ⟨by decide, by decide, by decide +kernel⟩
set_option maxHeartbeats 4000000 in
theorem ok_X0_spite (l : Launch) (g : zGd) (m : zMm) (a0 : Option Nat) (a1 : Int32) (a2 : Int32) (a3 : Int32) (z0 : Int32) (m0 : zMm) (h : f_X0_spite g m a0 a1 a2 a3 = some (z0, m0)) : zCT l yX0_spite cX0_spite 4 (some .boolean) 4 85 g m [va_rf a0, .int a1, .int a2, .int a3] (some (.int z0)) g m0 := by
  refine zCT.of (own := "QuiverKin") (mn := "spite") (by decide +kernel) rfl rfl (zla_r (zla_i (zla_i (zla_i zla_0)))) (zls_r (zls_i (zls_i (zls_i zls_0)))) (by decide) (fun X hxl hxg hxf hxt hxr hxn => ?_)
  have Kret : ∀ (y0 : Int32) (y1 : zMm), (y0, y1) = (z0, m0) → zRe X g y1 (some (.int y0)) := by
    intro y0 y1 e; cases e; exact ⟨hxf, hxr, hxn⟩
  subst hxl
  show zG X cX0_spite 4 "QuiverKin" "spite" 4 85 0 [(0, va_rf a0), (1, .int a1), (2, .int a2), (3, .int a3)] [] g m
  unfold f_X0_spite at h
  refine g_aload_n dX0_spite_0 0 rfl ?_
  refine g_iload_n dX0_spite_1 1 rfl ?_
  refine g_iload_n dX0_spite_2 2 rfl ?_
  refine g_cVRv (rv := fun x : Int32 => Value.int x) [.int a1, .int a2] (fun x0 e0 => ok_X0_canSwap (xl X) g m a0 a1 a2 x0 e0) zc0 (by decide) (lw_V q924 q926 qs27 q123 q927) rfl hy_X0_canSwap rfl ⟨by decide, by decide⟩ rfl zc_0 (by decide) dX0_spite_3 h (fun v1 h => ?_)
  refine g_if_eq 19 dX0_spite_6 (by decide) (fun c => ?_) (fun c => ?_)
  · have h := zite_p h c
    refine g_iconst (v := (0 : Int32)) dX0_spite_19 (by decide) ?_
    refine g_zret dX0_spite_20 hxt rfl ?_
    have e := Option.some.inj h
    exact Kret _ _ e
  · have h := zite_n h c
    refine g_iload_n dX0_spite_9 3 rfl ?_
    refine g_iconst (v := (0 : Int32)) dX0_spite_10 (by decide) ?_
    refine g_bipush (v := (99 : Int32)) dX0_spite_11 (by decide) ?_
    refine g_cSRv (rv := fun x : Int32 => Value.int x) [.int a3, .int (0 : Int32), .int (99 : Int32)] (fun x0 e0 => ok_X0_in (xl X) g m a3 (0 : Int32) (99 : Int32) x0 e0) (lw_S q312 q313 q123 q314) hy_X0_in rfl ⟨by decide, by decide⟩ rfl zc_0 (by decide) dX0_spite_13 h (fun v2 h => ?_)
    refine g_if_ne 21 dX0_spite_16 (by decide) (fun c => ?_) (fun c => ?_)
    · have h := zite_n h c
      refine g_aload_n dX0_spite_21 0 rfl ?_
      refine gf_r zfd_0_0 q239  (fun _ h9 => h9) dX0_spite_22 h (fun r3 h => ?_)
      refine gf_rN zfd_1_6 q189  (fun _ h9 => h9) dX0_spite_25 h (fun r4 h => ?_)
      refine g_iload_n dX0_spite_28 1 rfl ?_
      refine g_aald 5 rfl rfl (by decide)  dX0_spite_29 h (fun r5 h => ?_)
      refine g_iload_n dX0_spite_30 2 rfl ?_
      refine g_iload_n dX0_spite_31 3 rfl ?_
      refine g_iast dX0_spite_32 h (fun m6 h => ?_)
      refine g_aload_n dX0_spite_33 0 rfl ?_
      refine gf_r zfd_0_0 q239  (fun _ h9 => h9) dX0_spite_34 h (fun r7 h => ?_)
      refine gf_rN zfd_1_6 q189  (fun _ h9 => h9) dX0_spite_37 h (fun r8 h => ?_)
      refine g_iload_n dX0_spite_40 2 rfl ?_
      refine g_aald 5 rfl rfl (by decide)  dX0_spite_41 h (fun r9 h => ?_)
      refine g_iload_n dX0_spite_42 1 rfl ?_
      refine g_iload_n dX0_spite_43 3 rfl ?_
      refine g_iast dX0_spite_44 h (fun m10 h => ?_)
      refine g_iconst (v := (1 : Int32)) dX0_spite_45 (by decide) ?_
      refine g_zret dX0_spite_46 hxt rfl ?_
      have e := Option.some.inj h
      exact Kret _ _ e
    · have h := zite_p h c
      refine g_iconst (v := (0 : Int32)) dX0_spite_19 (by decide) ?_
      refine g_zret dX0_spite_20 hxt rfl ?_
      have e := Option.some.inj h
      exact Kret _ _ e
/-! QuiverKin.spiteAround -/
def b_X0_spiteAround_5 (g : zGd) (m : zMm) (a0 : Option Nat) (a1 : Option Nat) (a2 : Int32) : Int32 × Int32 → Option ((Int32) ⊕ (Int32 × Int32)) := fun (v4, v5) =>
(zrc g 0 a0 (f_X0_many g m a0)).bind fun v6 =>
if v6 ≤ v5 then (some (.inl v4))
else ((zgr g m 0 0 a0).bind fun r7 =>
(zgr g m 1 6 r7).bind fun r8 =>
(zald 101 g m a1 (a2 + v5)).bind fun v9 =>
(zaldr 106 g m r8 v9).bind fun r10 =>
(zrc g 0 a0 (f_X0_many g m a0)).bind fun v11 =>
(zmod (v5 + (1 : Int32)) v11).bind fun v12 =>
(zald 101 g m a1 (a2 + v12)).bind fun v13 =>
(zald 101 g m r10 v13).bind fun v14 =>
zlt (v4 + v14) fun v15 =>
zlt (v5 + (1 : Int32)) fun v16 =>
some (.inr (v15, v16)))
def f_X0_spiteAround (g : zGd) (m : zMm) (a0 : Option Nat) (a1 : Option Nat) (a2 : Int32) : Option (Int32) :=
(zLoop (b_X0_spiteAround_5 g m a0 a1 a2) zFuel ((0 : Int32), (0 : Int32))).bind fun v2 =>
(zrc g 0 a0 (f_X0_many g m a0)).bind fun v17 =>
if v17 = (2 : Int32) then (some ((v2 / (2 : Int32))))
else (some (v2))
theorem hy_X0_spiteAround : zHy yX0_spiteAround 2 := ⟨by decide, by decide, by decide +kernel⟩
set_option maxHeartbeats 4000000 in
theorem ok_X0_spiteAround (l : Launch) (g : zGd) (m : zMm) (a0 : Option Nat) (a1 : Option Nat) (a2 : Int32) (z0 : Int32) (h : f_X0_spiteAround g m a0 a1 a2 = some z0) : zCT l yX0_spiteAround cX0_spiteAround 5 (some .int) 2 40 g m [va_rf a0, va_rf a1, .int a2] (some (.int z0)) g m := by
  refine zCT.of (own := "QuiverKin") (mn := "spiteAround") (by decide +kernel) rfl rfl (zla_r (zla_r (zla_i zla_0))) (zls_r (zls_r (zls_i zls_0))) (by decide) (fun X hxl hxg hxf hxt hxr hxn => ?_)
  have Kret : ∀ (y0 : Int32), y0 = z0 → zRe X g m (some (.int y0)) := by
    intro y0 e; cases e; exact ⟨hxf, hxr, hxn⟩
  subst hxl
  show zG X cX0_spiteAround 5 "QuiverKin" "spiteAround" 2 40 0 [(0, va_rf a0), (1, va_rf a1), (2, .int a2)] [] g m
  unfold f_X0_spiteAround at h
  refine g_iconst (v := (0 : Int32)) dX0_spiteAround_0 (by decide) ?_
  refine g_istore_n [(3, .int (0 : Int32)), (0, va_rf a0), (1, va_rf a1), (2, .int a2)] dX0_spiteAround_1 (by decide) (zf_r (zf_r (zf_i zf_0))) rfl ?_
  refine g_iconst (v := (0 : Int32)) dX0_spiteAround_2 (by decide) ?_
  refine g_istore [(4, .int (0 : Int32)), (3, .int (0 : Int32)), (0, va_rf a0), (1, va_rf a1), (2, .int a2)] dX0_spiteAround_3 (by decide) (zf_i (zf_r (zf_r (zf_i zf_0)))) rfl ?_
  obtain ⟨o1, h1, h2⟩ := zB_e h
  have K1 : ∀ (v2 : Int32), o1 = v2 → zG X cX0_spiteAround 5 "QuiverKin" "spiteAround" 2 40 51 [(0, va_rf a0), (3, .int v2)] [] g m := by
    intro v2 e
    rw [e] at h2
    have h := h2
    refine g_aload_n dX0_spiteAround_51 0 rfl ?_
    refine g_cVRv (rv := fun x : Int32 => Value.int x) [] (fun x0 e0 => ok_X0_many (xl X) g m a0 x0 e0) zc0 (by decide) (lw_V q308 q310 qs0 q123 q311) rfl hy_X0_many rfl ⟨by decide, by decide⟩ rfl zc_0 (by decide) dX0_spiteAround_52 h (fun v17 h => ?_)
    refine g_iconst (v := (2 : Int32)) dX0_spiteAround_55 (by decide) ?_
    refine g_icmp_ne 65 dX0_spiteAround_56 (by decide) (fun c => ?_) (fun c => ?_)
    · have h := zite_n h c
      refine g_iload_n dX0_spiteAround_65 1 rfl ?_
      refine g_iret dX0_spiteAround_66 hxt ?_
      have e := Option.some.inj h
      exact Kret _ e
    · have h := zite_p h c
      refine g_iload_n dX0_spiteAround_59 1 rfl ?_
      refine g_iconst (v := (2 : Int32)) dX0_spiteAround_60 (by decide) ?_
      refine g_idivC dX0_spiteAround_61 (by decide) ?_
      refine g_goto 66 dX0_spiteAround_62 (by decide) ?_
      refine g_iret dX0_spiteAround_66 hxt ?_
      have e := Option.some.inj h
      exact Kret _ e
  refine zG.sub [2, 3, 4, 1, 0] rfl ?_
  refine zLoop_ok (Φ := (fun (q : Int32 × Int32) => match q with | (v4, v5) => zG X cX0_spiteAround 5 "QuiverKin" "spiteAround" 2 40 5 [(0, va_rf a0), (1, va_rf a1), (2, .int a2), (3, .int v4), (4, .int v5)] [] g m)) o1 ?_ zFuel _ h1
  rintro ⟨v4, v5⟩ x3 h hl3 hr3
  unfold b_X0_spiteAround_5 at h
  have K3 : ∀ (v4 : Int32) (v5 : Int32), x3 = .inr (v4, v5) → zG X cX0_spiteAround 5 "QuiverKin" "spiteAround" 2 40 5 [(0, va_rf a0), (1, va_rf a1), (2, .int a2), (3, .int v4), (4, .int v5)] [] g m := by
    intro v4 v5 e
    exact hr3 _ e
  show zG X cX0_spiteAround 5 "QuiverKin" "spiteAround" 2 40 5 [(0, va_rf a0), (1, va_rf a1), (2, .int a2), (3, .int v4), (4, .int v5)] [] g m
  refine g_iload dX0_spiteAround_5 4 rfl ?_
  refine g_aload_n dX0_spiteAround_7 0 rfl ?_
  refine g_cVRv (rv := fun x : Int32 => Value.int x) [] (fun x0 e0 => ok_X0_many (xl X) g m a0 x0 e0) zc0 (by decide) (lw_V q308 q310 qs0 q123 q311) rfl hy_X0_many rfl ⟨by decide, by decide⟩ rfl (zc_i zc_0) (by decide) dX0_spiteAround_8 h (fun v6 h => ?_)
  refine g_icmp_ge 51 dX0_spiteAround_11 (by decide) (fun c => ?_) (fun c => ?_)
  · have h := zite_p h c
    refine zG.sub [0, 3] rfl ?_
    have e := Option.some.inj h
    have e := hl3 _ e.symm
    exact K1 _ e.symm
  · have h := zite_n h c
    refine g_iload_n dX0_spiteAround_14 3 rfl ?_
    refine g_aload_n dX0_spiteAround_15 0 rfl ?_
    refine gf_r zfd_0_0 q239  (fun _ h9 => h9) dX0_spiteAround_16 h (fun r7 h => ?_)
    refine gf_rN zfd_1_6 q189  (fun _ h9 => h9) dX0_spiteAround_19 h (fun r8 h => ?_)
    refine g_aload_n dX0_spiteAround_22 1 rfl ?_
    refine g_iload_n dX0_spiteAround_23 2 rfl ?_
    refine g_iload dX0_spiteAround_24 4 rfl ?_
    refine g_iadd dX0_spiteAround_26 ?_
    refine g_iald dX0_spiteAround_27 h (fun v9 h => ?_)
    refine g_aald 5 rfl rfl (by decide)  dX0_spiteAround_28 h (fun r10 h => ?_)
    refine g_aload_n dX0_spiteAround_29 1 rfl ?_
    refine g_iload_n dX0_spiteAround_30 2 rfl ?_
    refine g_iload dX0_spiteAround_31 4 rfl ?_
    refine g_iconst (v := (1 : Int32)) dX0_spiteAround_33 (by decide) ?_
    refine g_iadd dX0_spiteAround_34 ?_
    refine g_aload_n dX0_spiteAround_35 0 rfl ?_
    refine g_cVRv (rv := fun x : Int32 => Value.int x) [] (fun x0 e0 => ok_X0_many (xl X) g m a0 x0 e0) zc0 (by decide) (lw_V q308 q310 qs0 q123 q311) rfl hy_X0_many rfl ⟨by decide, by decide⟩ rfl (zc_i (zc_i (zc_r (zc_r (zc_i zc_0))))) (by decide) dX0_spiteAround_36 h (fun v11 h => ?_)
    refine g_irem dX0_spiteAround_39 h (fun v12 h => ?_)
    refine g_iadd dX0_spiteAround_40 ?_
    refine g_iald dX0_spiteAround_41 h (fun v13 h => ?_)
    refine g_iald dX0_spiteAround_42 h (fun v14 h => ?_)
    refine g_iadd dX0_spiteAround_43 ?_
    refine g_leti h (fun v15 h => ?_)
    refine g_istore_n [(3, .int v15), (0, va_rf a0), (1, va_rf a1), (2, .int a2), (4, .int v5)] dX0_spiteAround_44 (by decide) (zf_r (zf_r (zf_i (zf_i (zf_i zf_0))))) rfl ?_
    refine g_iinc (v := (1 : Int32)) [(3, .int v15), (0, va_rf a0), (1, va_rf a1), (2, .int a2)] dX0_spiteAround_45 4 rfl (by decide) (by decide) (zf_i (zf_r (zf_r (zf_i (zf_i zf_0))))) rfl h (fun v16 h => ?_)
    refine g_goto 5 dX0_spiteAround_48 (by decide) ?_
    refine zG.sub [2, 3, 4, 1, 0] rfl ?_
    have e := Option.some.inj h
    exact K3 _ _ e.symm
/-! SCC.seats -/
theorem hy_X0_seatsFrom : zHy yX0_seatsFrom 2 := ⟨by decide, by decide, by decide +kernel⟩
def b_X0_seatsFrom_84 (g : zGd) (rec : (zGd → zMm → Option Nat → Int32 → Int32 → Option (zMm))) (a0 : Option Nat) (a1 : Int32) (a2 : Int32) : Int32 × zMm → Option ((zMm) ⊕ (Int32 × zMm)) := fun (v4, m5) =>
(zrc g 0 a0 (f_X0_many g m5 a0)).bind fun v6 =>
if v6 ≤ v4 then (some (.inl m5))
else ((f_X0_has a2 v4).bind fun v7 =>
if v7 = 0 then (zlt (v4 + (1 : Int32)) fun v12 =>
some (.inr (v12, m5)))
else ((zgr g m5 0 8 a0).bind fun r8 =>
(zast 101 g m5 r8 a1 v4).bind fun m9 =>
(zrc g 0 a0 (rec g m9 a0 (a1 + (1 : Int32)) (a2 &&& ((zshl (1 : Int32) v4) ^^^ (-1 : Int32))))).bind fun m10 =>
zlt (v4 + (1 : Int32)) fun v11 =>
some (.inr (v11, m10))))
def q_X0_seatsFrom (rec : (zGd → zMm → Option Nat → Int32 → Int32 → Option (zMm))) (g : zGd) (m : zMm) (a0 : Option Nat) (a1 : Int32) (a2 : Int32) : Option (zMm) :=
if a2 = 0 then ((zgr g m 0 8 a0).bind fun r13 =>
(zrc g 0 a0 (f_X0_spiteAround g m a0 r13 (0 : Int32))).bind fun v14 =>
(zgi g m 0 11 a0).bind fun v15 =>
(f_J7_max v15 v14).bind fun v16 =>
(zpi g m 0 11 a0 v16).bind fun m17 =>
(zgi g m17 0 10 a0).bind fun v18 =>
if v14 ≤ v18 then ((zgi g m17 0 10 a0).bind fun v19 =>
((if v19 ≤ v14 then (some (m17))
else ((zgr g m17 0 8 a0).bind fun r22 =>
(zgr g m17 0 9 a0).bind fun r23 =>
(f_X1_copy g m17 r22 r23).bind fun m24 =>
some (m24)) : Option (zMm))).bind fun m21 =>
(zgi g m21 0 10 a0).bind fun v25 =>
((if v25 ≤ v14 then ((zgi g m21 0 12 a0).bind fun v28 =>
some ((v28 + (1 : Int32))))
else (some ((1 : Int32))) : Option (Int32))).bind fun v27 =>
(zpi g m21 0 12 a0 v27).bind fun m29 =>
(zpi g m29 0 10 a0 v14).bind fun m30 =>
some (m30))
else (some (m17)))
else ((zLoop (b_X0_seatsFrom_84 g rec a0 a1 a2) zFuel ((0 : Int32), m)).bind fun m2 =>
some (m2))
set_option maxHeartbeats 4000000 in
theorem qk_X0_seatsFrom (l : Launch) (g : zGd) (m : zMm) (fR lR : Nat) (rec : (zGd → zMm → Option Nat → Int32 → Int32 → Option (zMm))) (hrec1 : ∀ (g : zGd) (m : zMm) (a0 : Option Nat) (a1 : Int32) (a2 : Int32) (m0 : zMm), rec g m a0 a1 a2 = some m0 → zCT l yX0_seatsFrom cX0_seatsFrom 4 none fR lR g m [va_rf a0, .int a1, .int a2] none g m0) (a0 : Option Nat) (a1 : Int32) (a2 : Int32) (m0 : zMm) (h : q_X0_seatsFrom rec g m a0 a1 a2 = some m0) : zCT l yX0_seatsFrom cX0_seatsFrom 4 none (3 + fR) (64 + lR) g m [va_rf a0, .int a1, .int a2] none g m0 := by
  refine zCT.of (own := "QuiverKin") (mn := "seatsFrom") (by decide +kernel) rfl rfl (zla_r (zla_i (zla_i zla_0))) (zls_r (zls_i (zls_i zls_0))) (by decide) (fun X hxl hxg hxf hxt hxr hxn => ?_)
  have Kret : ∀ (y0 : zMm), y0 = m0 → zRe X g y0 none := by
    intro y0 e; cases e; exact ⟨hxf, hxr, hxn⟩
  subst hxl
  show zG X cX0_seatsFrom 4 "QuiverKin" "seatsFrom" (3 + fR) (64 + lR) 0 [(0, va_rf a0), (1, .int a1), (2, .int a2)] [] g m
  unfold q_X0_seatsFrom at h
  refine g_iload_n dX0_seatsFrom_0 2 rfl ?_
  refine g_if_ne 82 dX0_seatsFrom_1 (by decide) (fun c => ?_) (fun c => ?_)
  · have h := zite_n h c
    refine g_iconst (v := (0 : Int32)) dX0_seatsFrom_82 (by decide) ?_
    refine g_istore_n [(3, .int (0 : Int32)), (0, va_rf a0), (1, .int a1), (2, .int a2)] dX0_seatsFrom_83 (by decide) (zf_r (zf_i (zf_i zf_0))) rfl ?_
    obtain ⟨o1, h1, h2⟩ := zB_e h
    have K1 : ∀ (m2 : zMm), o1 = m2 → zG X cX0_seatsFrom 4 "QuiverKin" "seatsFrom" (3 + fR) (64 + lR) 130 [] [] g m2 := by
      intro m2 e
      rw [e] at h2
      have h := h2
      refine g_vret dX0_seatsFrom_130 hxt ?_
      have e := Option.some.inj h
      exact Kret _ e
    refine zG.sub [1, 2, 3, 0] rfl ?_
    refine zLoop_ok (Φ := (fun (q : Int32 × zMm) => match q with | (v4, m5) => zG X cX0_seatsFrom 4 "QuiverKin" "seatsFrom" (3 + fR) (64 + lR) 84 [(0, va_rf a0), (1, .int a1), (2, .int a2), (3, .int v4)] [] g m5)) o1 ?_ zFuel _ h1
    rintro ⟨v4, m5⟩ x3 h hl3 hr3
    unfold b_X0_seatsFrom_84 at h
    have K3 : ∀ (v4 : Int32) (m5 : zMm), x3 = .inr (v4, m5) → zG X cX0_seatsFrom 4 "QuiverKin" "seatsFrom" (3 + fR) (64 + lR) 84 [(0, va_rf a0), (1, .int a1), (2, .int a2), (3, .int v4)] [] g m5 := by
      intro v4 m5 e
      exact hr3 _ e
    show zG X cX0_seatsFrom 4 "QuiverKin" "seatsFrom" (3 + fR) (64 + lR) 84 [(0, va_rf a0), (1, .int a1), (2, .int a2), (3, .int v4)] [] g m5
    refine g_iload_n dX0_seatsFrom_84 3 rfl ?_
    refine g_aload_n dX0_seatsFrom_85 0 rfl ?_
    refine g_cVRv (rv := fun x : Int32 => Value.int x) [] (fun x0 e0 => ok_X0_many (xl X) g m5 a0 x0 e0) zc0 (by decide) (lw_V q308 q310 qs0 q123 q311) rfl hy_X0_many rfl ⟨by omega, by omega⟩ rfl (zc_i zc_0) (by decide) dX0_seatsFrom_86 h (fun v6 h => ?_)
    refine g_icmp_ge 130 dX0_seatsFrom_89 (by decide) (fun c => ?_) (fun c => ?_)
    · have h := zite_p h c
      refine zG.sub [] rfl ?_
      have e := Option.some.inj h
      have e := hl3 _ e.symm
      exact K1 _ e.symm
    · have h := zite_n h c
      refine g_iload_n dX0_seatsFrom_92 2 rfl ?_
      refine g_iload_n dX0_seatsFrom_93 3 rfl ?_
      refine g_cSRv (rv := fun x : Int32 => Value.int x) [.int a2, .int v4] (fun x0 e0 => ok_X0_has (xl X) g m5 a2 v4 x0 e0) (lw_S q897 q898 q123 q899) hy_X0_has rfl ⟨by omega, by omega⟩ rfl zc_0 (by decide) dX0_seatsFrom_94 h (fun v7 h => ?_)
      refine g_if_ne 103 dX0_seatsFrom_97 (by decide) (fun c => ?_) (fun c => ?_)
      · have h := zite_n h c
        refine g_aload_n dX0_seatsFrom_103 0 rfl ?_
        refine gf_r zfd_0_8 q247  (fun _ h9 => h9) dX0_seatsFrom_104 h (fun r8 h => ?_)
        refine g_iload_n dX0_seatsFrom_107 1 rfl ?_
        refine g_iload_n dX0_seatsFrom_108 3 rfl ?_
        refine g_iast dX0_seatsFrom_109 h (fun m9 h => ?_)
        refine g_aload_n dX0_seatsFrom_110 0 rfl ?_
        refine g_iload_n dX0_seatsFrom_111 1 rfl ?_
        refine g_iconst (v := (1 : Int32)) dX0_seatsFrom_112 (by decide) ?_
        refine g_iadd dX0_seatsFrom_113 ?_
        refine g_iload_n dX0_seatsFrom_114 2 rfl ?_
        refine g_iconst (v := (1 : Int32)) dX0_seatsFrom_115 (by decide) ?_
        refine g_iload_n dX0_seatsFrom_116 3 rfl ?_
        refine g_ishl dX0_seatsFrom_117 ?_
        refine g_iconst (v := (-1 : Int32)) dX0_seatsFrom_118 (by decide) ?_
        refine g_ixor dX0_seatsFrom_119 ?_
        refine g_iand dX0_seatsFrom_120 ?_
        refine g_cVMn [.int (a1 + (1 : Int32)), .int (a2 &&& ((zshl (1 : Int32) v4) ^^^ (-1 : Int32)))] (fun m0 e0 => hrec1 g m9 a0 (a1 + (1 : Int32)) (a2 &&& ((zshl (1 : Int32) v4) ^^^ (-1 : Int32))) m0 e0) zc0 (by decide) (lw_V q1178 q1180 qs42 q123 q1181) rfl hy_X0_seatsFrom rfl ⟨by omega, by omega⟩ rfl zc_0 (by decide) dX0_seatsFrom_121 h (fun m10 h => ?_)
        refine g_iinc (v := (1 : Int32)) [(0, va_rf a0), (1, .int a1), (2, .int a2)] dX0_seatsFrom_124 3 rfl (by decide) (by decide) (zf_r (zf_i (zf_i (zf_i zf_0)))) rfl h (fun v11 h => ?_)
        refine g_goto 84 dX0_seatsFrom_127 (by decide) ?_
        refine zG.sub [1, 2, 3, 0] rfl ?_
        have e := Option.some.inj h
        exact K3 _ _ e.symm
      · have h := zite_p h c
        refine g_goto 124 dX0_seatsFrom_100 (by decide) ?_
        refine g_iinc (v := (1 : Int32)) [(0, va_rf a0), (1, .int a1), (2, .int a2)] dX0_seatsFrom_124 3 rfl (by decide) (by decide) (zf_r (zf_i (zf_i (zf_i zf_0)))) rfl h (fun v12 h => ?_)
        refine g_goto 84 dX0_seatsFrom_127 (by decide) ?_
        refine zG.sub [1, 2, 3, 0] rfl ?_
        have e := Option.some.inj h
        exact K3 _ _ e.symm
  · have h := zite_p h c
    refine g_aload_n dX0_seatsFrom_4 0 rfl ?_
    refine g_aload_n dX0_seatsFrom_5 0 rfl ?_
    refine gf_r zfd_0_8 q247  (fun _ h9 => h9) dX0_seatsFrom_6 h (fun r13 h => ?_)
    refine g_iconst (v := (0 : Int32)) dX0_seatsFrom_9 (by decide) ?_
    refine g_cVRv (rv := fun x : Int32 => Value.int x) [va_rf r13, .int (0 : Int32)] (fun x0 e0 => ok_X0_spiteAround (xl X) g m a0 r13 (0 : Int32) x0 e0) zc0 (by decide) (lw_V q1182 q1184 qs43 q123 q1185) rfl hy_X0_spiteAround rfl ⟨by omega, by omega⟩ rfl zc_0 (by decide) dX0_seatsFrom_10 h (fun v14 h => ?_)
    refine g_istore_n [(3, .int v14), (0, va_rf a0), (1, .int a1), (2, .int a2)] dX0_seatsFrom_13 (by decide) (zf_r (zf_i (zf_i zf_0))) rfl ?_
    refine g_aload_n dX0_seatsFrom_14 1 rfl ?_
    refine g_aload_n dX0_seatsFrom_15 1 rfl ?_
    refine gf_i zfd_0_11 q250  (fun _ h9 => h9) dX0_seatsFrom_16 h (fun v15 h => ?_)
    refine g_iload_n dX0_seatsFrom_19 0 rfl ?_
    refine g_cSRv (rv := fun x : Int32 => Value.int x) [.int v15, .int v14] (fun x0 e0 => ok_J7_max (xl X) g m v15 v14 x0 e0) (lw_S q1186 q655 q136 q656) hy_J7_max rfl ⟨by omega, by omega⟩ rfl (zc_r zc_0) (by decide) dX0_seatsFrom_20 h (fun v16 h => ?_)
    refine gp_i zpd_0_11 q250 (fun _ h9 => h9) dX0_seatsFrom_23 h (fun m17 h => ?_)
    refine g_iload_n dX0_seatsFrom_26 0 rfl ?_
    refine g_aload_n dX0_seatsFrom_27 1 rfl ?_
    refine gf_i zfd_0_10 q249  (fun _ h9 => h9) dX0_seatsFrom_28 h (fun v18 h => ?_)
    refine g_icmp_le 35 dX0_seatsFrom_31 (by decide) (fun c => ?_) (fun c => ?_)
    · have h := zite_p h c
      refine g_iload_n dX0_seatsFrom_35 0 rfl ?_
      refine g_aload_n dX0_seatsFrom_36 1 rfl ?_
      refine gf_i zfd_0_10 q249  (fun _ h9 => h9) dX0_seatsFrom_37 h (fun v19 h => ?_)
      obtain ⟨o20, h1, h2⟩ := zB_e h
      have K20 : ∀ (m21 : zMm), o20 = m21 → zG X cX0_seatsFrom 4 "QuiverKin" "seatsFrom" (3 + fR) (64 + lR) 54 [(0, va_rf a0), (3, .int v14)] [] g m21 := by
        intro m21 e
        rw [e] at h2
        have h := h2
        refine g_aload_n dX0_seatsFrom_54 0 rfl ?_
        refine g_iload_n dX0_seatsFrom_55 1 rfl ?_
        refine g_aload_n dX0_seatsFrom_56 0 rfl ?_
        refine gf_i zfd_0_10 q249  (fun _ h9 => h9) dX0_seatsFrom_57 h (fun v25 h => ?_)
        obtain ⟨o26, h1, h2⟩ := zB_e h
        have K26 : ∀ (v27 : Int32), o26 = v27 → zG X cX0_seatsFrom 4 "QuiverKin" "seatsFrom" (3 + fR) (64 + lR) 73 [(0, va_rf a0), (3, .int v14)] [.int v27, va_rf a0] g m21 := by
          intro v27 e
          rw [e] at h2
          have h := h2
          refine gp_i zpd_0_12 q251 (fun _ h9 => h9) dX0_seatsFrom_73 h (fun m29 h => ?_)
          refine g_aload_n dX0_seatsFrom_76 0 rfl ?_
          refine g_iload_n dX0_seatsFrom_77 1 rfl ?_
          refine gp_i zpd_0_10 q249 (fun _ h9 => h9) dX0_seatsFrom_78 h (fun m30 h => ?_)
          refine g_vret dX0_seatsFrom_81 hxt ?_
          have e := Option.some.inj h
          exact Kret _ e
        have h := h1
        refine g_icmp_ge 67 dX0_seatsFrom_60 (by decide) (fun c => ?_) (fun c => ?_)
        · have h := zite_p h c
          refine g_aload_n dX0_seatsFrom_67 0 rfl ?_
          refine gf_i zfd_0_12 q251  (fun _ h9 => h9) dX0_seatsFrom_68 h (fun v28 h => ?_)
          refine g_iconst (v := (1 : Int32)) dX0_seatsFrom_71 (by decide) ?_
          refine g_iadd dX0_seatsFrom_72 ?_
          refine zG.sub [0, 1] rfl ?_
          have e := Option.some.inj h
          exact K26 _ e.symm
        · have h := zite_n h c
          refine g_iconst (v := (1 : Int32)) dX0_seatsFrom_63 (by decide) ?_
          refine g_goto 73 dX0_seatsFrom_64 (by decide) ?_
          refine zG.sub [0, 1] rfl ?_
          have e := Option.some.inj h
          exact K26 _ e.symm
      have h := h1
      refine g_icmp_ge 54 dX0_seatsFrom_40 (by decide) (fun c => ?_) (fun c => ?_)
      · have h := zite_p h c
        refine zG.sub [1, 0] rfl ?_
        have e := Option.some.inj h
        exact K20 _ e.symm
      · have h := zite_n h c
        refine g_aload_n dX0_seatsFrom_43 1 rfl ?_
        refine gf_r zfd_0_8 q247  (fun _ h9 => h9) dX0_seatsFrom_44 h (fun r22 h => ?_)
        refine g_aload_n dX0_seatsFrom_47 1 rfl ?_
        refine gf_r zfd_0_9 q248  (fun _ h9 => h9) dX0_seatsFrom_48 h (fun r23 h => ?_)
        refine g_cSNMn [va_rf r22, va_rf r23] (fun m0 e0 => ok_X1_copy (xl X) g m17 r22 r23 m0 e0) (lw_meth q232) q124 q1140 q231 hy_X1_copy rfl ⟨by omega, by omega⟩ rfl zc_0 (by decide) dX0_seatsFrom_51 h (fun m24 h => ?_)
        refine zG.sub [1, 0] rfl ?_
        have e := Option.some.inj h
        exact K20 _ e.symm
    · have h := zite_n h c
      refine g_vret dX0_seatsFrom_34 hxt ?_
      have e := Option.some.inj h
      exact Kret _ e
def r_seats : Nat → (zGd → zMm → Option Nat → Int32 → Int32 → Option (zMm))
  | 0 => fun _ _ _ _ _ => none
  | d + 1 => q_X0_seatsFrom (r_seats d)
theorem okr_seats (l : Launch) : ∀ d : Nat, (∀ (g : zGd) (m : zMm) (a0 : Option Nat) (a1 : Int32) (a2 : Int32) (m0 : zMm), (r_seats d) g m a0 a1 a2 = some m0 → zCT l yX0_seatsFrom cX0_seatsFrom 4 none (3 * d) (64 * d) g m [va_rf a0, .int a1, .int a2] none g m0)
  | 0 => (fun g m a0 a1 a2 m0 h => by cases h)
  | d + 1 => by
    have ih := okr_seats l d
    exact (fun g m a0 a1 a2 m0 h => by rw [Nat.mul_succ, Nat.mul_succ, Nat.add_comm (3 * d), Nat.add_comm (64 * d)]; exact qk_X0_seatsFrom l g m _ _ (r_seats d) ih a0 a1 a2 m0 h)
def f_X0_seatsFrom (g : zGd) (m : zMm) (a0 : Option Nat) (a1 : Int32) (a2 : Int32) : Option (zMm) := (r_seats 20) g m a0 a1 a2
theorem ok_X0_seatsFrom (l : Launch) (g : zGd) (m : zMm) (a0 : Option Nat) (a1 : Int32) (a2 : Int32) (m0 : zMm) (h : f_X0_seatsFrom g m a0 a1 a2 = some m0) : zCT l yX0_seatsFrom cX0_seatsFrom 4 none 60 1280 g m [va_rf a0, .int a1, .int a2] none g m0 := (okr_seats l 20) g m a0 a1 a2 m0 h
/-! QuiverKin.laysSeats -/
def f_X0_laysSeats (g : zGd) (m : zMm) (a0 : Option Nat) : Option (zMm) :=
(zpi g m 0 10 a0 (99999 : Int32)).bind fun m1 =>
(zpi g m1 0 11 a0 (-1 : Int32)).bind fun m2 =>
(zpi g m2 0 12 a0 (0 : Int32)).bind fun m3 =>
(zgr g m3 0 8 a0).bind fun r4 =>
(zast 101 g m3 r4 (0 : Int32) (0 : Int32)).bind fun m5 =>
(zrc g 0 a0 (f_X0_many g m5 a0)).bind fun v6 =>
(zrc g 0 a0 (f_X0_seatsFrom g m5 a0 (1 : Int32) (((zshl (1 : Int32) v6) - (1 : Int32)) &&& (-2 : Int32)))).bind fun m7 =>
some (m7)
theorem hy_X0_laysSeats : zHy yX0_laysSeats 0 := ⟨by decide, by decide, by decide +kernel⟩
set_option maxHeartbeats 4000000 in
theorem ok_X0_laysSeats (l : Launch) (g : zGd) (m : zMm) (a0 : Option Nat) (m0 : zMm) (h : f_X0_laysSeats g m a0 = some m0) : zCT l yX0_laysSeats cX0_laysSeats 1 none 61 1303 g m [va_rf a0] none g m0 := by
  refine zCT.of (own := "QuiverKin") (mn := "laysSeats") (by decide +kernel) rfl rfl (zla_r zla_0) (zls_r zls_0) (by decide) (fun X hxl hxg hxf hxt hxr hxn => ?_)
  have Kret : ∀ (y0 : zMm), y0 = m0 → zRe X g y0 none := by
    intro y0 e; cases e; exact ⟨hxf, hxr, hxn⟩
  subst hxl
  show zG X cX0_laysSeats 1 "QuiverKin" "laysSeats" 61 1303 0 [(0, va_rf a0)] [] g m
  unfold f_X0_laysSeats at h
  refine g_aload_n dX0_laysSeats_0 0 rfl ?_
  refine g_ldcw (v := (99999 : Int32)) q1177 dX0_laysSeats_1 ?_
  refine gp_i zpd_0_10 q249 (fun _ h9 => h9) dX0_laysSeats_4 h (fun m1 h => ?_)
  refine g_aload_n dX0_laysSeats_7 0 rfl ?_
  refine g_iconst (v := (-1 : Int32)) dX0_laysSeats_8 (by decide) ?_
  refine gp_i zpd_0_11 q250 (fun _ h9 => h9) dX0_laysSeats_9 h (fun m2 h => ?_)
  refine g_aload_n dX0_laysSeats_12 0 rfl ?_
  refine g_iconst (v := (0 : Int32)) dX0_laysSeats_13 (by decide) ?_
  refine gp_i zpd_0_12 q251 (fun _ h9 => h9) dX0_laysSeats_14 h (fun m3 h => ?_)
  refine g_aload_n dX0_laysSeats_17 0 rfl ?_
  refine gf_r zfd_0_8 q247  (fun _ h9 => h9) dX0_laysSeats_18 h (fun r4 h => ?_)
  refine g_iconst (v := (0 : Int32)) dX0_laysSeats_21 (by decide) ?_
  refine g_iconst (v := (0 : Int32)) dX0_laysSeats_22 (by decide) ?_
  refine g_iast dX0_laysSeats_23 h (fun m5 h => ?_)
  refine g_aload_n dX0_laysSeats_24 0 rfl ?_
  refine g_iconst (v := (1 : Int32)) dX0_laysSeats_25 (by decide) ?_
  refine g_iconst (v := (1 : Int32)) dX0_laysSeats_26 (by decide) ?_
  refine g_aload_n dX0_laysSeats_27 0 rfl ?_
  refine g_cVRv (rv := fun x : Int32 => Value.int x) [] (fun x0 e0 => ok_X0_many (xl X) g m5 a0 x0 e0) zc0 (by decide) (lw_V q308 q310 qs0 q123 q311) rfl hy_X0_many rfl ⟨by decide, by decide⟩ rfl (zc_i (zc_i (zc_r zc_0))) (by decide) dX0_laysSeats_28 h (fun v6 h => ?_)
  refine g_ishl dX0_laysSeats_31 ?_
  refine g_iconst (v := (1 : Int32)) dX0_laysSeats_32 (by decide) ?_
  refine g_isub dX0_laysSeats_33 ?_
  refine g_bipush (v := (-2 : Int32)) dX0_laysSeats_34 (by decide) ?_
  refine g_iand dX0_laysSeats_36 ?_
  refine g_cVMn [.int (1 : Int32), .int (((zshl (1 : Int32) v6) - (1 : Int32)) &&& (-2 : Int32))] (fun m0 e0 => ok_X0_seatsFrom (xl X) g m5 a0 (1 : Int32) (((zshl (1 : Int32) v6) - (1 : Int32)) &&& (-2 : Int32)) m0 e0) zc0 (by decide) (lw_V q1178 q1180 qs42 q123 q1181) rfl hy_X0_seatsFrom rfl ⟨by decide, by decide⟩ rfl zc_0 (by decide) dX0_laysSeats_37 h (fun m7 h => ?_)
  refine g_vret dX0_laysSeats_40 hxt ?_
  have e := Option.some.inj h
  exact Kret _ e
/-! QuiverKin.round -/
def f_X0_round (g : zGd) (m : zMm) (a0 : Option Nat) (a1 : Int32) : Option (Int32 × zMm) :=
(zrc g 0 a0 (f_X0_laysSeats g m a0)).bind fun m1 =>
if a1 = 0 then ((zgi g m1 0 11 a0).bind fun v2 =>
some ((v2, m1)))
else ((zgi g m1 0 10 a0).bind fun v3 =>
some ((v3, m1)))
theorem hy_X0_round : zHy yX0_round 1 := ⟨by decide, by decide, by decide +kernel⟩
set_option maxHeartbeats 4000000 in
theorem ok_X0_round (l : Launch) (g : zGd) (m : zMm) (a0 : Option Nat) (a1 : Int32) (z0 : Int32) (m0 : zMm) (h : f_X0_round g m a0 a1 = some (z0, m0)) : zCT l yX0_round cX0_round 2 (some .int) 62 1323 g m [va_rf a0, .int a1] (some (.int z0)) g m0 := by
  refine zCT.of (own := "QuiverKin") (mn := "round") (by decide +kernel) rfl rfl (zla_r (zla_i zla_0)) (zls_r (zls_i zls_0)) (by decide) (fun X hxl hxg hxf hxt hxr hxn => ?_)
  have Kret : ∀ (y0 : Int32) (y1 : zMm), (y0, y1) = (z0, m0) → zRe X g y1 (some (.int y0)) := by
    intro y0 y1 e; cases e; exact ⟨hxf, hxr, hxn⟩
  subst hxl
  show zG X cX0_round 2 "QuiverKin" "round" 62 1323 0 [(0, va_rf a0), (1, .int a1)] [] g m
  unfold f_X0_round at h
  refine g_aload_n dX0_round_0 0 rfl ?_
  refine g_cVMn [] (fun m0 e0 => ok_X0_laysSeats (xl X) g m a0 m0 e0) zc0 (by decide) (lw_V q1173 q1175 qs41 q123 q1176) rfl hy_X0_laysSeats rfl ⟨by decide, by decide⟩ rfl zc_0 (by decide) dX0_round_1 h (fun m1 h => ?_)
  refine g_iload_n dX0_round_4 1 rfl ?_
  refine g_if_eq 15 dX0_round_5 (by decide) (fun c => ?_) (fun c => ?_)
  · have h := zite_p h c
    refine g_aload_n dX0_round_15 0 rfl ?_
    refine gf_i zfd_0_11 q250  (fun _ h9 => h9) dX0_round_16 h (fun v2 h => ?_)
    refine g_iret dX0_round_19 hxt ?_
    have e := Option.some.inj h
    exact Kret _ _ e
  · have h := zite_n h c
    refine g_aload_n dX0_round_8 0 rfl ?_
    refine gf_i zfd_0_10 q249  (fun _ h9 => h9) dX0_round_9 h (fun v3 h => ?_)
    refine g_goto 19 dX0_round_12 (by decide) ?_
    refine g_iret dX0_round_19 hxt ?_
    have e := Option.some.inj h
    exact Kret _ _ e
/-! QuiverKin.seating -/
def f_X0_seating (g : zGd) (m : zMm) (a0 : Option Nat) (a1 : Int32) : Option (Int32 × zMm) :=
(zrc g 0 a0 (f_X0_isKin g m a0 a1)).bind fun v1 =>
if v1 = 0 then (some (((-1 : Int32), m)))
else ((zrc g 0 a0 (f_X0_laysSeats g m a0)).bind fun m2 =>
(zgr g m2 0 9 a0).bind fun r3 =>
(zald 101 g m2 r3 a1).bind fun v4 =>
some ((v4, m2)))
theorem hy_X0_seating : zHy yX0_seating 1 := ⟨by decide, by decide, by decide +kernel⟩
set_option maxHeartbeats 4000000 in
theorem ok_X0_seating (l : Launch) (g : zGd) (m : zMm) (a0 : Option Nat) (a1 : Int32) (z0 : Int32) (m0 : zMm) (h : f_X0_seating g m a0 a1 = some (z0, m0)) : zCT l yX0_seating cX0_seating 2 (some .int) 62 1323 g m [va_rf a0, .int a1] (some (.int z0)) g m0 := by
  refine zCT.of (own := "QuiverKin") (mn := "seating") (by decide +kernel) rfl rfl (zla_r (zla_i zla_0)) (zls_r (zls_i zls_0)) (by decide) (fun X hxl hxg hxf hxt hxr hxn => ?_)
  have Kret : ∀ (y0 : Int32) (y1 : zMm), (y0, y1) = (z0, m0) → zRe X g y1 (some (.int y0)) := by
    intro y0 y1 e; cases e; exact ⟨hxf, hxr, hxn⟩
  subst hxl
  show zG X cX0_seating 2 "QuiverKin" "seating" 62 1323 0 [(0, va_rf a0), (1, .int a1)] [] g m
  unfold f_X0_seating at h
  refine g_aload_n dX0_seating_0 0 rfl ?_
  refine g_iload_n dX0_seating_1 1 rfl ?_
  refine g_cVRv (rv := fun x : Int32 => Value.int x) [.int a1] (fun x0 e0 => ok_X0_isKin (xl X) g m a0 a1 x0 e0) zc0 (by decide) (lw_V q893 q895 qs25 q123 q896) rfl hy_X0_isKin rfl ⟨by decide, by decide⟩ rfl zc_0 (by decide) dX0_seating_2 h (fun v1 h => ?_)
  refine g_if_ne 10 dX0_seating_5 (by decide) (fun c => ?_) (fun c => ?_)
  · have h := zite_n h c
    refine g_aload_n dX0_seating_10 0 rfl ?_
    refine g_cVMn [] (fun m0 e0 => ok_X0_laysSeats (xl X) g m a0 m0 e0) zc0 (by decide) (lw_V q1173 q1175 qs41 q123 q1176) rfl hy_X0_laysSeats rfl ⟨by decide, by decide⟩ rfl zc_0 (by decide) dX0_seating_11 h (fun m2 h => ?_)
    refine g_aload_n dX0_seating_14 0 rfl ?_
    refine gf_r zfd_0_9 q248  (fun _ h9 => h9) dX0_seating_15 h (fun r3 h => ?_)
    refine g_iload_n dX0_seating_18 1 rfl ?_
    refine g_iald dX0_seating_19 h (fun v4 h => ?_)
    refine g_iret dX0_seating_20 hxt ?_
    have e := Option.some.inj h
    exact Kret _ _ e
  · have h := zite_p h c
    refine g_iconst (v := (-1 : Int32)) dX0_seating_8 (by decide) ?_
    refine g_iret dX0_seating_9 hxt ?_
    have e := Option.some.inj h
    exact Kret _ _ e
/-! QuiverKin.seatings -/
def f_X0_seatings (g : zGd) (m : zMm) (a0 : Option Nat) : Option (Int32 × zMm) :=
(zrc g 0 a0 (f_X0_laysSeats g m a0)).bind fun m1 =>
(zgi g m1 0 12 a0).bind fun v2 =>
some ((v2, m1))
theorem hy_X0_seatings : zHy yX0_seatings 0 := ⟨by decide, by decide, by decide +kernel⟩
set_option maxHeartbeats 4000000 in
theorem ok_X0_seatings (l : Launch) (g : zGd) (m : zMm) (a0 : Option Nat) (z0 : Int32) (m0 : zMm) (h : f_X0_seatings g m a0 = some (z0, m0)) : zCT l yX0_seatings cX0_seatings 1 (some .int) 62 1323 g m [va_rf a0] (some (.int z0)) g m0 := by
  refine zCT.of (own := "QuiverKin") (mn := "seatings") (by decide +kernel) rfl rfl (zla_r zla_0) (zls_r zls_0) (by decide) (fun X hxl hxg hxf hxt hxr hxn => ?_)
  have Kret : ∀ (y0 : Int32) (y1 : zMm), (y0, y1) = (z0, m0) → zRe X g y1 (some (.int y0)) := by
    intro y0 y1 e; cases e; exact ⟨hxf, hxr, hxn⟩
  subst hxl
  show zG X cX0_seatings 1 "QuiverKin" "seatings" 62 1323 0 [(0, va_rf a0)] [] g m
  unfold f_X0_seatings at h
  refine g_aload_n dX0_seatings_0 0 rfl ?_
  refine g_cVMn [] (fun m0 e0 => ok_X0_laysSeats (xl X) g m a0 m0 e0) zc0 (by decide) (lw_V q1173 q1175 qs41 q123 q1176) rfl hy_X0_laysSeats rfl ⟨by decide, by decide⟩ rfl zc_0 (by decide) dX0_seatings_1 h (fun m1 h => ?_)
  refine g_aload_n dX0_seatings_4 0 rfl ?_
  refine gf_i zfd_0_12 q251  (fun _ h9 => h9) dX0_seatings_5 h (fun v2 h => ?_)
  refine g_iret dX0_seatings_8 hxt ?_
  have e := Option.some.inj h
  exact Kret _ _ e
/-! QuiverKin.spiteNow -/
def f_X0_spiteNow (g : zGd) (m : zMm) (a0 : Option Nat) : Option (Int32) :=
(zgr g m 0 0 a0).bind fun r1 =>
(zgr g m 1 1 r1).bind fun r2 =>
(zrc g 0 a0 (f_X0_spiteAround g m a0 r2 (2 : Int32))).bind fun v3 =>
some (v3)
theorem hy_X0_spiteNow : zHy yX0_spiteNow 0 := ⟨by decide, by decide, by decide +kernel⟩
set_option maxHeartbeats 4000000 in
theorem ok_X0_spiteNow (l : Launch) (g : zGd) (m : zMm) (a0 : Option Nat) (z0 : Int32) (h : f_X0_spiteNow g m a0 = some z0) : zCT l yX0_spiteNow cX0_spiteNow 1 (some .int) 3 64 g m [va_rf a0] (some (.int z0)) g m := by
  refine zCT.of (own := "QuiverKin") (mn := "spiteNow") (by decide +kernel) rfl rfl (zla_r zla_0) (zls_r zls_0) (by decide) (fun X hxl hxg hxf hxt hxr hxn => ?_)
  have Kret : ∀ (y0 : Int32), y0 = z0 → zRe X g m (some (.int y0)) := by
    intro y0 e; cases e; exact ⟨hxf, hxr, hxn⟩
  subst hxl
  show zG X cX0_spiteNow 1 "QuiverKin" "spiteNow" 3 64 0 [(0, va_rf a0)] [] g m
  unfold f_X0_spiteNow at h
  refine g_aload_n dX0_spiteNow_0 0 rfl ?_
  refine g_aload_n dX0_spiteNow_1 0 rfl ?_
  refine gf_r zfd_0_0 q239  (fun _ h9 => h9) dX0_spiteNow_2 h (fun r1 h => ?_)
  refine gf_rN zfd_1_1 q179  (fun _ h9 => h9) dX0_spiteNow_5 h (fun r2 h => ?_)
  refine g_iconst (v := (2 : Int32)) dX0_spiteNow_8 (by decide) ?_
  refine g_cVRv (rv := fun x : Int32 => Value.int x) [va_rf r2, .int (2 : Int32)] (fun x0 e0 => ok_X0_spiteAround (xl X) g m a0 r2 (2 : Int32) x0 e0) zc0 (by decide) (lw_V q1182 q1184 qs43 q123 q1185) rfl hy_X0_spiteAround rfl ⟨by decide, by decide⟩ rfl zc_0 (by decide) dX0_spiteNow_9 h (fun v3 h => ?_)
  refine g_iret dX0_spiteNow_12 hxt ?_
  have e := Option.some.inj h
  exact Kret _ e
/-! QuiverKin.spiteBy -/
def f_X0_spiteBy (g : zGd) (m : zMm) (a0 : Option Nat) (a1 : Int32) (a2 : Int32) : Option (Int32 × zMm) :=
(zgr g m 0 0 a0).bind fun r1 =>
(zgr g m 1 1 r1).bind fun r2 =>
(zgr g m 0 7 a0).bind fun r3 =>
(f_X1_copy g m r2 r3).bind fun m4 =>
(zgr g m4 0 7 a0).bind fun r5 =>
(zgr g m4 0 0 a0).bind fun r6 =>
(zgr g m4 1 1 r6).bind fun r7 =>
(zrc g 0 a0 (f_X0_seatOf g m4 a0 r7 a1)).bind fun v8 =>
(zgr g m4 0 0 a0).bind fun r9 =>
(zgr g m4 1 1 r9).bind fun r10 =>
(zrc g 0 a0 (f_X0_seatOf g m4 a0 r10 a2)).bind fun v11 =>
(f_X0_swaps g m4 r5 v8 v11).bind fun m12 =>
(zgr g m12 0 7 a0).bind fun r13 =>
(zrc g 0 a0 (f_X0_spiteAround g m12 a0 r13 (2 : Int32))).bind fun v14 =>
some ((v14, m12))
theorem hy_X0_spiteBy : zHy yX0_spiteBy 2 := ⟨by decide, by decide, by decide +kernel⟩
set_option maxHeartbeats 4000000 in
theorem ok_X0_spiteBy (l : Launch) (g : zGd) (m : zMm) (a0 : Option Nat) (a1 : Int32) (a2 : Int32) (z0 : Int32) (m0 : zMm) (h : f_X0_spiteBy g m a0 a1 a2 = some (z0, m0)) : zCT l yX0_spiteBy cX0_spiteBy 3 (some .int) 3 64 g m [va_rf a0, .int a1, .int a2] (some (.int z0)) g m0 := by
  refine zCT.of (own := "QuiverKin") (mn := "spiteBy") (by decide +kernel) rfl rfl (zla_r (zla_i (zla_i zla_0))) (zls_r (zls_i (zls_i zls_0))) (by decide) (fun X hxl hxg hxf hxt hxr hxn => ?_)
  have Kret : ∀ (y0 : Int32) (y1 : zMm), (y0, y1) = (z0, m0) → zRe X g y1 (some (.int y0)) := by
    intro y0 y1 e; cases e; exact ⟨hxf, hxr, hxn⟩
  subst hxl
  show zG X cX0_spiteBy 3 "QuiverKin" "spiteBy" 3 64 0 [(0, va_rf a0), (1, .int a1), (2, .int a2)] [] g m
  unfold f_X0_spiteBy at h
  refine g_aload_n dX0_spiteBy_0 0 rfl ?_
  refine gf_r zfd_0_0 q239  (fun _ h9 => h9) dX0_spiteBy_1 h (fun r1 h => ?_)
  refine gf_rN zfd_1_1 q179  (fun _ h9 => h9) dX0_spiteBy_4 h (fun r2 h => ?_)
  refine g_aload_n dX0_spiteBy_7 0 rfl ?_
  refine gf_r zfd_0_7 q246  (fun _ h9 => h9) dX0_spiteBy_8 h (fun r3 h => ?_)
  refine g_cSNMn [va_rf r2, va_rf r3] (fun m0 e0 => ok_X1_copy (xl X) g m r2 r3 m0 e0) (lw_meth q232) q124 q1140 q231 hy_X1_copy rfl ⟨by decide, by decide⟩ rfl zc_0 (by decide) dX0_spiteBy_11 h (fun m4 h => ?_)
  refine g_aload_n dX0_spiteBy_14 0 rfl ?_
  refine gf_r zfd_0_7 q246  (fun _ h9 => h9) dX0_spiteBy_15 h (fun r5 h => ?_)
  refine g_aload_n dX0_spiteBy_18 0 rfl ?_
  refine g_aload_n dX0_spiteBy_19 0 rfl ?_
  refine gf_r zfd_0_0 q239  (fun _ h9 => h9) dX0_spiteBy_20 h (fun r6 h => ?_)
  refine gf_rN zfd_1_1 q179  (fun _ h9 => h9) dX0_spiteBy_23 h (fun r7 h => ?_)
  refine g_iload_n dX0_spiteBy_26 1 rfl ?_
  refine g_cVRv (rv := fun x : Int32 => Value.int x) [va_rf r7, .int a1] (fun x0 e0 => ok_X0_seatOf (xl X) g m4 a0 r7 a1 x0 e0) zc0 (by decide) (lw_V q928 q930 qs28 q123 q931) rfl hy_X0_seatOf rfl ⟨by decide, by decide⟩ rfl (zc_r zc_0) (by decide) dX0_spiteBy_27 h (fun v8 h => ?_)
  refine g_aload_n dX0_spiteBy_30 0 rfl ?_
  refine g_aload_n dX0_spiteBy_31 0 rfl ?_
  refine gf_r zfd_0_0 q239  (fun _ h9 => h9) dX0_spiteBy_32 h (fun r9 h => ?_)
  refine gf_rN zfd_1_1 q179  (fun _ h9 => h9) dX0_spiteBy_35 h (fun r10 h => ?_)
  refine g_iload_n dX0_spiteBy_38 2 rfl ?_
  refine g_cVRv (rv := fun x : Int32 => Value.int x) [va_rf r10, .int a2] (fun x0 e0 => ok_X0_seatOf (xl X) g m4 a0 r10 a2 x0 e0) zc0 (by decide) (lw_V q928 q930 qs28 q123 q931) rfl hy_X0_seatOf rfl ⟨by decide, by decide⟩ rfl (zc_i (zc_r zc_0)) (by decide) dX0_spiteBy_39 h (fun v11 h => ?_)
  refine g_cSMn [va_rf r5, .int v8, .int v11] (fun m0 e0 => ok_X0_swaps (xl X) g m4 r5 v8 v11 m0 e0) (lw_S q932 q933 q123 q934) hy_X0_swaps rfl ⟨by decide, by decide⟩ rfl zc_0 (by decide) dX0_spiteBy_42 h (fun m12 h => ?_)
  refine g_aload_n dX0_spiteBy_45 0 rfl ?_
  refine g_aload_n dX0_spiteBy_46 0 rfl ?_
  refine gf_r zfd_0_7 q246  (fun _ h9 => h9) dX0_spiteBy_47 h (fun r13 h => ?_)
  refine g_iconst (v := (2 : Int32)) dX0_spiteBy_50 (by decide) ?_
  refine g_cVRv (rv := fun x : Int32 => Value.int x) [va_rf r13, .int (2 : Int32)] (fun x0 e0 => ok_X0_spiteAround (xl X) g m12 a0 r13 (2 : Int32) x0 e0) zc0 (by decide) (lw_V q1182 q1184 qs43 q123 q1185) rfl hy_X0_spiteAround rfl ⟨by decide, by decide⟩ rfl zc_0 (by decide) dX0_spiteBy_51 h (fun v14 h => ?_)
  refine g_iret dX0_spiteBy_54 hxt ?_
  have e := Option.some.inj h
  exact Kret _ _ e
/-! QuiverKin.mend -/
def b_X0_mend_28 (g : zGd) (a0 : Option Nat) (v11 : Int32) : Int32 × Int32 × Int32 × Int32 × zMm → Option ((Int32 × Int32 × Int32 × zMm) ⊕ (Int32 × Int32 × Int32 × Int32 × zMm)) := fun (v21, v22, v23, v24, m25) =>
(zrc g 0 a0 (f_X0_many g m25 a0)).bind fun v26 =>
if v26 ≤ v24 then (some (.inl ((v21, v22, v23, m25))))
else ((zrc g 0 a0 (f_X0_spiteBy g m25 a0 v11 v24)).bind fun (v27, m28) =>
if v27 < v21 then ((zrc g 0 a0 (f_X0_spiteBy g m28 a0 v11 v24)).bind fun (v29, m30) =>
zlt (v24 + (1 : Int32)) fun v31 =>
some (.inr (v29, v11, v24, v31, m30)))
else (zlt (v24 + (1 : Int32)) fun v32 =>
some (.inr (v21, v22, v23, v32, m28))))
def b_X0_mend_13 (g : zGd) (a0 : Option Nat) : Int32 × Int32 × Int32 × Int32 × zMm → Option ((Int32 × Int32 × Int32 × zMm) ⊕ (Int32 × Int32 × Int32 × Int32 × zMm)) := fun (v8, v9, v10, v11, m12) =>
(zrc g 0 a0 (f_X0_many g m12 a0)).bind fun v13 =>
if v13 ≤ v11 then (some (.inl ((v8, v9, v10, m12))))
else (zlt (v11 + (1 : Int32)) fun v14 =>
(zLoop (b_X0_mend_28 g a0 v11) zFuel (v8, v9, v10, v14, m12)).bind fun (v16, v17, v18, m19) =>
zlt (v11 + (1 : Int32)) fun v33 =>
some (.inr (v16, v17, v18, v33, m19)))
def f_X0_mend (g : zGd) (m : zMm) (a0 : Option Nat) (a1 : Int32) : Option (Int32 × zMm) :=
(zrc g 0 a0 (f_X0_spiteNow g m a0)).bind fun v1 =>
(zLoop (b_X0_mend_13 g a0) zFuel (v1, (-1 : Int32), (-1 : Int32), (0 : Int32), m)).bind fun (v3, v4, v5, m6) =>
if v4 = (-1 : Int32) then (some (((-1 : Int32), m6)))
else (if a1 = 0 then (some ((v4, m6)))
else (if a1 = (1 : Int32) then (some ((v5, m6)))
else (if a1 = (2 : Int32) then (some ((v3, m6)))
else (some (((-1 : Int32), m6))))))
theorem hy_X0_mend : zHy yX0_mend 1 := ⟨by decide, by decide, by decide +kernel⟩
set_option maxHeartbeats 4000000 in
theorem ok_X0_mend (l : Launch) (g : zGd) (m : zMm) (a0 : Option Nat) (a1 : Int32) (z0 : Int32) (m0 : zMm) (h : f_X0_mend g m a0 a1 = some (z0, m0)) : zCT l yX0_mend cX0_mend 7 (some .int) 4 86 g m [va_rf a0, .int a1] (some (.int z0)) g m0 := by
  refine zCT.of (own := "QuiverKin") (mn := "mend") (by decide +kernel) rfl rfl (zla_r (zla_i zla_0)) (zls_r (zls_i zls_0)) (by decide) (fun X hxl hxg hxf hxt hxr hxn => ?_)
  have Kret : ∀ (y0 : Int32) (y1 : zMm), (y0, y1) = (z0, m0) → zRe X g y1 (some (.int y0)) := by
    intro y0 y1 e; cases e; exact ⟨hxf, hxr, hxn⟩
  subst hxl
  show zG X cX0_mend 7 "QuiverKin" "mend" 4 86 0 [(0, va_rf a0), (1, .int a1)] [] g m
  unfold f_X0_mend at h
  refine g_aload_n dX0_mend_0 0 rfl ?_
  refine g_cVRv (rv := fun x : Int32 => Value.int x) [] (fun x0 e0 => ok_X0_spiteNow (xl X) g m a0 x0 e0) zc0 (by decide) (lw_V q1203 q1196 q1197 q123 q1198) rfl hy_X0_spiteNow rfl ⟨by decide, by decide⟩ rfl zc_0 (by decide) dX0_mend_1 h (fun v1 h => ?_)
  refine g_istore_n [(2, .int v1), (0, va_rf a0), (1, .int a1)] dX0_mend_4 (by decide) (zf_r (zf_i zf_0)) rfl ?_
  refine g_iconst (v := (-1 : Int32)) dX0_mend_5 (by decide) ?_
  refine g_istore_n [(3, .int (-1 : Int32)), (2, .int v1), (0, va_rf a0), (1, .int a1)] dX0_mend_6 (by decide) (zf_i (zf_r (zf_i zf_0))) rfl ?_
  refine g_iconst (v := (-1 : Int32)) dX0_mend_7 (by decide) ?_
  refine g_istore [(4, .int (-1 : Int32)), (3, .int (-1 : Int32)), (2, .int v1), (0, va_rf a0), (1, .int a1)] dX0_mend_8 (by decide) (zf_i (zf_i (zf_r (zf_i zf_0)))) rfl ?_
  refine g_iconst (v := (0 : Int32)) dX0_mend_10 (by decide) ?_
  refine g_istore [(5, .int (0 : Int32)), (4, .int (-1 : Int32)), (3, .int (-1 : Int32)), (2, .int v1), (0, va_rf a0), (1, .int a1)] dX0_mend_11 (by decide) (zf_i (zf_i (zf_i (zf_r (zf_i zf_0))))) rfl ?_
  obtain ⟨o2, h1, h2⟩ := zB_e h
  have K2 : ∀ (v3 : Int32) (v4 : Int32) (v5 : Int32) (m6 : zMm), o2 = (v3, v4, v5, m6) → zG X cX0_mend 7 "QuiverKin" "mend" 4 86 80 [(1, .int a1), (2, .int v3), (3, .int v4), (4, .int v5)] [] g m6 := by
    intro v3 v4 v5 m6 e
    rw [e] at h2
    have h := h2
    refine g_iload_n dX0_mend_80 2 rfl ?_
    refine g_iconst (v := (-1 : Int32)) dX0_mend_81 (by decide) ?_
    refine g_icmp_ne 89 dX0_mend_82 (by decide) (fun c => ?_) (fun c => ?_)
    · have h := zite_n h c
      refine g_iload_n dX0_mend_89 0 rfl ?_
      refine g_if_ne 97 dX0_mend_90 (by decide) (fun c => ?_) (fun c => ?_)
      · have h := zite_n h c
        refine g_iload_n dX0_mend_97 0 rfl ?_
        refine g_iconst (v := (1 : Int32)) dX0_mend_98 (by decide) ?_
        refine g_icmp_ne 107 dX0_mend_99 (by decide) (fun c => ?_) (fun c => ?_)
        · have h := zite_n h c
          refine g_iload_n dX0_mend_107 0 rfl ?_
          refine g_iconst (v := (2 : Int32)) dX0_mend_108 (by decide) ?_
          refine g_icmp_ne 116 dX0_mend_109 (by decide) (fun c => ?_) (fun c => ?_)
          · have h := zite_n h c
            refine g_iconst (v := (-1 : Int32)) dX0_mend_116 (by decide) ?_
            refine g_iret dX0_mend_117 hxt ?_
            have e := Option.some.inj h
            exact Kret _ _ e
          · have h := zite_p h c
            refine g_iload_n dX0_mend_112 1 rfl ?_
            refine g_goto 117 dX0_mend_113 (by decide) ?_
            refine g_iret dX0_mend_117 hxt ?_
            have e := Option.some.inj h
            exact Kret _ _ e
        · have h := zite_p h c
          refine g_iload dX0_mend_102 3 rfl ?_
          refine g_goto 117 dX0_mend_104 (by decide) ?_
          refine g_iret dX0_mend_117 hxt ?_
          have e := Option.some.inj h
          exact Kret _ _ e
      · have h := zite_p h c
        refine g_iload_n dX0_mend_93 2 rfl ?_
        refine g_goto 117 dX0_mend_94 (by decide) ?_
        refine g_iret dX0_mend_117 hxt ?_
        have e := Option.some.inj h
        exact Kret _ _ e
    · have h := zite_p h c
      refine g_iconst (v := (-1 : Int32)) dX0_mend_85 (by decide) ?_
      refine g_goto 117 dX0_mend_86 (by decide) ?_
      refine g_iret dX0_mend_117 hxt ?_
      have e := Option.some.inj h
      exact Kret _ _ e
  refine zG.sub [4, 5, 3, 2, 1, 0] rfl ?_
  refine zLoop_ok (Φ := (fun (q : Int32 × Int32 × Int32 × Int32 × zMm) => match q with | (v8, v9, v10, v11, m12) => zG X cX0_mend 7 "QuiverKin" "mend" 4 86 13 [(0, va_rf a0), (1, .int a1), (2, .int v8), (3, .int v9), (4, .int v10), (5, .int v11)] [] g m12)) o2 ?_ zFuel _ h1
  rintro ⟨v8, v9, v10, v11, m12⟩ x7 h hl7 hr7
  unfold b_X0_mend_13 at h
  have K7 : ∀ (v8 : Int32) (v9 : Int32) (v10 : Int32) (v11 : Int32) (m12 : zMm), x7 = .inr (v8, v9, v10, v11, m12) → zG X cX0_mend 7 "QuiverKin" "mend" 4 86 13 [(0, va_rf a0), (1, .int a1), (2, .int v8), (3, .int v9), (4, .int v10), (5, .int v11)] [] g m12 := by
    intro v8 v9 v10 v11 m12 e
    exact hr7 _ e
  show zG X cX0_mend 7 "QuiverKin" "mend" 4 86 13 [(0, va_rf a0), (1, .int a1), (2, .int v8), (3, .int v9), (4, .int v10), (5, .int v11)] [] g m12
  refine g_iload dX0_mend_13 5 rfl ?_
  refine g_aload_n dX0_mend_15 0 rfl ?_
  refine g_cVRv (rv := fun x : Int32 => Value.int x) [] (fun x0 e0 => ok_X0_many (xl X) g m12 a0 x0 e0) zc0 (by decide) (lw_V q308 q310 qs0 q123 q311) rfl hy_X0_many rfl ⟨by decide, by decide⟩ rfl (zc_i zc_0) (by decide) dX0_mend_16 h (fun v13 h => ?_)
  refine g_icmp_ge 80 dX0_mend_19 (by decide) (fun c => ?_) (fun c => ?_)
  · have h := zite_p h c
    refine zG.sub [1, 2, 3, 4] rfl ?_
    have e := Option.some.inj h
    have e := hl7 _ e.symm
    exact K2 _ _ _ _ e.symm
  · have h := zite_n h c
    refine g_iload dX0_mend_22 5 rfl ?_
    refine g_iconst (v := (1 : Int32)) dX0_mend_24 (by decide) ?_
    refine g_iadd dX0_mend_25 ?_
    refine g_leti h (fun v14 h => ?_)
    refine g_istore [(6, .int v14), (0, va_rf a0), (1, .int a1), (2, .int v8), (3, .int v9), (4, .int v10), (5, .int v11)] dX0_mend_26 (by decide) (zf_r (zf_i (zf_i (zf_i (zf_i (zf_i zf_0)))))) rfl ?_
    obtain ⟨o15, h1, h2⟩ := zB_e h
    have K15 : ∀ (v16 : Int32) (v17 : Int32) (v18 : Int32) (m19 : zMm), o15 = (v16, v17, v18, m19) → zG X cX0_mend 7 "QuiverKin" "mend" 4 86 74 [(0, va_rf a0), (1, .int a1), (2, .int v16), (3, .int v17), (4, .int v18), (5, .int v11)] [] g m19 := by
      intro v16 v17 v18 m19 e
      rw [e] at h2
      have h := h2
      refine g_iinc (v := (1 : Int32)) [(0, va_rf a0), (1, .int a1), (2, .int v16), (3, .int v17), (4, .int v18)] dX0_mend_74 5 rfl (by decide) (by decide) (zf_r (zf_i (zf_i (zf_i (zf_i (zf_i zf_0)))))) rfl h (fun v33 h => ?_)
      refine g_goto 13 dX0_mend_77 (by decide) ?_
      refine zG.sub [1, 2, 3, 4, 5, 0] rfl ?_
      have e := Option.some.inj h
      exact K7 _ _ _ _ _ e.symm
    refine zG.sub [1, 2, 3, 4, 5, 6, 0] rfl ?_
    refine zLoop_ok (Φ := (fun (q : Int32 × Int32 × Int32 × Int32 × zMm) => match q with | (v21, v22, v23, v24, m25) => zG X cX0_mend 7 "QuiverKin" "mend" 4 86 28 [(0, va_rf a0), (1, .int a1), (2, .int v21), (3, .int v22), (4, .int v23), (5, .int v11), (6, .int v24)] [] g m25)) o15 ?_ zFuel _ h1
    rintro ⟨v21, v22, v23, v24, m25⟩ x20 h hl20 hr20
    unfold b_X0_mend_28 at h
    have K20 : ∀ (v21 : Int32) (v22 : Int32) (v23 : Int32) (v24 : Int32) (m25 : zMm), x20 = .inr (v21, v22, v23, v24, m25) → zG X cX0_mend 7 "QuiverKin" "mend" 4 86 28 [(0, va_rf a0), (1, .int a1), (2, .int v21), (3, .int v22), (4, .int v23), (5, .int v11), (6, .int v24)] [] g m25 := by
      intro v21 v22 v23 v24 m25 e
      exact hr20 _ e
    show zG X cX0_mend 7 "QuiverKin" "mend" 4 86 28 [(0, va_rf a0), (1, .int a1), (2, .int v21), (3, .int v22), (4, .int v23), (5, .int v11), (6, .int v24)] [] g m25
    refine g_iload dX0_mend_28 6 rfl ?_
    refine g_aload_n dX0_mend_30 0 rfl ?_
    refine g_cVRv (rv := fun x : Int32 => Value.int x) [] (fun x0 e0 => ok_X0_many (xl X) g m25 a0 x0 e0) zc0 (by decide) (lw_V q308 q310 qs0 q123 q311) rfl hy_X0_many rfl ⟨by decide, by decide⟩ rfl (zc_i zc_0) (by decide) dX0_mend_31 h (fun v26 h => ?_)
    refine g_icmp_ge 74 dX0_mend_34 (by decide) (fun c => ?_) (fun c => ?_)
    · have h := zite_p h c
      refine zG.sub [0, 1, 2, 3, 4, 5] rfl ?_
      have e := Option.some.inj h
      have e := hl20 _ e.symm
      exact K15 _ _ _ _ e.symm
    · have h := zite_n h c
      refine g_aload_n dX0_mend_37 0 rfl ?_
      refine g_iload dX0_mend_38 5 rfl ?_
      refine g_iload dX0_mend_40 6 rfl ?_
      refine g_cVMv (rv := fun x : Int32 => Value.int x) [.int v11, .int v24] (fun x0 m0 e0 => ok_X0_spiteBy (xl X) g m25 a0 v11 v24 x0 m0 e0) zc0 (by decide) (lw_V q1204 q1206 qs44 q123 q1207) rfl hy_X0_spiteBy rfl ⟨by decide, by decide⟩ rfl zc_0 (by decide) dX0_mend_42 h (fun v27 m28 h => ?_)
      refine g_iload_n dX0_mend_45 2 rfl ?_
      refine g_icmp_lt 52 dX0_mend_46 (by decide) (fun c => ?_) (fun c => ?_)
      · have h := zite_p h c
        refine g_aload_n dX0_mend_52 0 rfl ?_
        refine g_iload dX0_mend_53 5 rfl ?_
        refine g_iload dX0_mend_55 6 rfl ?_
        refine g_cVMv (rv := fun x : Int32 => Value.int x) [.int v11, .int v24] (fun x0 m0 e0 => ok_X0_spiteBy (xl X) g m28 a0 v11 v24 x0 m0 e0) zc0 (by decide) (lw_V q1204 q1206 qs44 q123 q1207) rfl hy_X0_spiteBy rfl ⟨by decide, by decide⟩ rfl zc_0 (by decide) dX0_mend_57 h (fun v29 m30 h => ?_)
        refine g_istore_n [(2, .int v29), (0, va_rf a0), (1, .int a1), (3, .int v22), (4, .int v23), (5, .int v11), (6, .int v24)] dX0_mend_60 (by decide) (zf_r (zf_i (zf_i (zf_i (zf_i (zf_i (zf_i zf_0))))))) rfl ?_
        refine g_iload dX0_mend_61 5 rfl ?_
        refine g_istore_n [(3, .int v11), (2, .int v29), (0, va_rf a0), (1, .int a1), (4, .int v23), (5, .int v11), (6, .int v24)] dX0_mend_63 (by decide) (zf_i (zf_r (zf_i (zf_i (zf_i (zf_i (zf_i zf_0))))))) rfl ?_
        refine g_iload dX0_mend_64 6 rfl ?_
        refine g_istore [(4, .int v24), (3, .int v11), (2, .int v29), (0, va_rf a0), (1, .int a1), (5, .int v11), (6, .int v24)] dX0_mend_66 (by decide) (zf_i (zf_i (zf_r (zf_i (zf_i (zf_i (zf_i zf_0))))))) rfl ?_
        refine g_iinc (v := (1 : Int32)) [(4, .int v24), (3, .int v11), (2, .int v29), (0, va_rf a0), (1, .int a1), (5, .int v11)] dX0_mend_68 6 rfl (by decide) (by decide) (zf_i (zf_i (zf_i (zf_r (zf_i (zf_i (zf_i zf_0))))))) rfl h (fun v31 h => ?_)
        refine g_goto 28 dX0_mend_71 (by decide) ?_
        refine zG.sub [4, 5, 3, 2, 1, 6, 0] rfl ?_
        have e := Option.some.inj h
        exact K20 _ _ _ _ _ e.symm
      · have h := zite_n h c
        refine g_goto 68 dX0_mend_49 (by decide) ?_
        refine g_iinc (v := (1 : Int32)) [(0, va_rf a0), (1, .int a1), (2, .int v21), (3, .int v22), (4, .int v23), (5, .int v11)] dX0_mend_68 6 rfl (by decide) (by decide) (zf_r (zf_i (zf_i (zf_i (zf_i (zf_i (zf_i zf_0))))))) rfl h (fun v32 h => ?_)
        refine g_goto 28 dX0_mend_71 (by decide) ?_
        refine zG.sub [1, 2, 3, 4, 5, 6, 0] rfl ?_
        have e := Option.some.inj h
        exact K20 _ _ _ _ _ e.symm
/-! QuiverKin.hedge -/
def f_X0_hedge (g : zGd) (m : zMm) (a0 : Option Nat) (a1 : Int32) (a2 : Int32) : Option (Int32 × zMm) :=
(f_X0_in a1 (0 : Int32) (35 : Int32)).bind fun v1 =>
if v1 = 0 then (some (((0 : Int32), m)))
else ((f_X0_in a2 (0 : Int32) (3 : Int32)).bind fun v2 =>
if v2 = 0 then (some (((0 : Int32), m)))
else ((zgr g m 0 0 a0).bind fun r3 =>
(zgr g m 1 3 r3).bind fun r4 =>
(zast 101 g m r4 a1 a2).bind fun m5 =>
some (((1 : Int32), m5))))
theorem hy_X0_hedge : zHy yX0_hedge 2 := ⟨by decide, by decide, by decide +kernel⟩
set_option maxHeartbeats 4000000 in
theorem ok_X0_hedge (l : Launch) (g : zGd) (m : zMm) (a0 : Option Nat) (a1 : Int32) (a2 : Int32) (z0 : Int32) (m0 : zMm) (h : f_X0_hedge g m a0 a1 a2 = some (z0, m0)) : zCT l yX0_hedge cX0_hedge 3 (some .boolean) 2 42 g m [va_rf a0, .int a1, .int a2] (some (.int z0)) g m0 := by
  refine zCT.of (own := "QuiverKin") (mn := "hedge") (by decide +kernel) rfl rfl (zla_r (zla_i (zla_i zla_0))) (zls_r (zls_i (zls_i zls_0))) (by decide) (fun X hxl hxg hxf hxt hxr hxn => ?_)
  have Kret : ∀ (y0 : Int32) (y1 : zMm), (y0, y1) = (z0, m0) → zRe X g y1 (some (.int y0)) := by
    intro y0 y1 e; cases e; exact ⟨hxf, hxr, hxn⟩
  subst hxl
  show zG X cX0_hedge 3 "QuiverKin" "hedge" 2 42 0 [(0, va_rf a0), (1, .int a1), (2, .int a2)] [] g m
  unfold f_X0_hedge at h
  refine g_iload_n dX0_hedge_0 1 rfl ?_
  refine g_iconst (v := (0 : Int32)) dX0_hedge_1 (by decide) ?_
  refine g_bipush (v := (35 : Int32)) dX0_hedge_2 (by decide) ?_
  refine g_cSRv (rv := fun x : Int32 => Value.int x) [.int a1, .int (0 : Int32), .int (35 : Int32)] (fun x0 e0 => ok_X0_in (xl X) g m a1 (0 : Int32) (35 : Int32) x0 e0) (lw_S q312 q313 q123 q314) hy_X0_in rfl ⟨by decide, by decide⟩ rfl zc_0 (by decide) dX0_hedge_4 h (fun v1 h => ?_)
  refine g_if_eq 19 dX0_hedge_7 (by decide) (fun c => ?_) (fun c => ?_)
  · have h := zite_p h c
    refine g_iconst (v := (0 : Int32)) dX0_hedge_19 (by decide) ?_
    refine g_zret dX0_hedge_20 hxt rfl ?_
    have e := Option.some.inj h
    exact Kret _ _ e
  · have h := zite_n h c
    refine g_iload_n dX0_hedge_10 2 rfl ?_
    refine g_iconst (v := (0 : Int32)) dX0_hedge_11 (by decide) ?_
    refine g_iconst (v := (3 : Int32)) dX0_hedge_12 (by decide) ?_
    refine g_cSRv (rv := fun x : Int32 => Value.int x) [.int a2, .int (0 : Int32), .int (3 : Int32)] (fun x0 e0 => ok_X0_in (xl X) g m a2 (0 : Int32) (3 : Int32) x0 e0) (lw_S q312 q313 q123 q314) hy_X0_in rfl ⟨by decide, by decide⟩ rfl zc_0 (by decide) dX0_hedge_13 h (fun v2 h => ?_)
    refine g_if_ne 21 dX0_hedge_16 (by decide) (fun c => ?_) (fun c => ?_)
    · have h := zite_n h c
      refine g_aload_n dX0_hedge_21 0 rfl ?_
      refine gf_r zfd_0_0 q239  (fun _ h9 => h9) dX0_hedge_22 h (fun r3 h => ?_)
      refine gf_rN zfd_1_3 q183  (fun _ h9 => h9) dX0_hedge_25 h (fun r4 h => ?_)
      refine g_iload_n dX0_hedge_28 1 rfl ?_
      refine g_iload_n dX0_hedge_29 2 rfl ?_
      refine g_iast dX0_hedge_30 h (fun m5 h => ?_)
      refine g_iconst (v := (1 : Int32)) dX0_hedge_31 (by decide) ?_
      refine g_zret dX0_hedge_32 hxt rfl ?_
      have e := Option.some.inj h
      exact Kret _ _ e
    · have h := zite_p h c
      refine g_iconst (v := (0 : Int32)) dX0_hedge_19 (by decide) ?_
      refine g_zret dX0_hedge_20 hxt rfl ?_
      have e := Option.some.inj h
      exact Kret _ _ e
/-! QuiverKin.leavesBy -/
def f_X0_leavesBy (a0 : Int32) (a1 : Int32) : Option (Int32) :=
if a1 = 0 then (if (6 : Int32) ≤ a0 then (some ((0 : Int32)))
else (some ((1 : Int32))))
else (if a1 = (1 : Int32) then (if (zrem a0 (6 : Int32)) = (5 : Int32) then (some ((1 : Int32)))
else (some ((0 : Int32))))
else (if a1 = (2 : Int32) then (if a0 < (30 : Int32) then (some ((0 : Int32)))
else (some ((1 : Int32))))
else (if (zrem a0 (6 : Int32)) = 0 then (some ((1 : Int32)))
else (some ((0 : Int32))))))
theorem hy_X0_leavesBy : zHy yX0_leavesBy 2 := ⟨by decide, by decide, by decide +kernel⟩
set_option maxHeartbeats 4000000 in
theorem ok_X0_leavesBy (l : Launch) (g : zGd) (m : zMm) (a0 : Int32) (a1 : Int32) (z0 : Int32) (h : f_X0_leavesBy a0 a1 = some z0) : zCT l yX0_leavesBy cX0_leavesBy 2 (some .boolean) 1 20 g m [.int a0, .int a1] (some (.int z0)) g m := by
  refine zCT.of (own := "QuiverKin") (mn := "leavesBy") (by decide +kernel) rfl rfl (zla_i (zla_i zla_0)) (zls_i (zls_i zls_0)) (by decide) (fun X hxl hxg hxf hxt hxr hxn => ?_)
  have Kret : ∀ (y0 : Int32), y0 = z0 → zRe X g m (some (.int y0)) := by
    intro y0 e; cases e; exact ⟨hxf, hxr, hxn⟩
  subst hxl
  show zG X cX0_leavesBy 2 "QuiverKin" "leavesBy" 1 20 0 [(0, .int a0), (1, .int a1)] [] g m
  unfold f_X0_leavesBy at h
  refine g_iload_n dX0_leavesBy_0 1 rfl ?_
  refine g_if_ne 18 dX0_leavesBy_1 (by decide) (fun c => ?_) (fun c => ?_)
  · have h := zite_n h c
    refine g_iload_n dX0_leavesBy_18 1 rfl ?_
    refine g_iconst (v := (1 : Int32)) dX0_leavesBy_19 (by decide) ?_
    refine g_icmp_ne 39 dX0_leavesBy_20 (by decide) (fun c => ?_) (fun c => ?_)
    · have h := zite_n h c
      refine g_iload_n dX0_leavesBy_39 1 rfl ?_
      refine g_iconst (v := (2 : Int32)) dX0_leavesBy_40 (by decide) ?_
      refine g_icmp_ne 58 dX0_leavesBy_41 (by decide) (fun c => ?_) (fun c => ?_)
      · have h := zite_n h c
        refine g_iload_n dX0_leavesBy_58 0 rfl ?_
        refine g_bipush (v := (6 : Int32)) dX0_leavesBy_59 (by decide) ?_
        refine g_iremC dX0_leavesBy_61 (by decide) ?_
        refine g_if_ne 69 dX0_leavesBy_62 (by decide) (fun c => ?_) (fun c => ?_)
        · have h := zite_n h c
          refine g_iconst (v := (0 : Int32)) dX0_leavesBy_69 (by decide) ?_
          refine g_zret dX0_leavesBy_70 hxt rfl ?_
          have e := Option.some.inj h
          exact Kret _ e
        · have h := zite_p h c
          refine g_iconst (v := (1 : Int32)) dX0_leavesBy_65 (by decide) ?_
          refine g_goto 70 dX0_leavesBy_66 (by decide) ?_
          refine g_zret dX0_leavesBy_70 hxt rfl ?_
          have e := Option.some.inj h
          exact Kret _ e
      · have h := zite_p h c
        refine g_iload_n dX0_leavesBy_44 0 rfl ?_
        refine g_bipush (v := (30 : Int32)) dX0_leavesBy_45 (by decide) ?_
        refine g_icmp_lt 54 dX0_leavesBy_47 (by decide) (fun c => ?_) (fun c => ?_)
        · have h := zite_p h c
          refine g_iconst (v := (0 : Int32)) dX0_leavesBy_54 (by decide) ?_
          refine g_goto 70 dX0_leavesBy_55 (by decide) ?_
          refine g_zret dX0_leavesBy_70 hxt rfl ?_
          have e := Option.some.inj h
          exact Kret _ e
        · have h := zite_n h c
          refine g_iconst (v := (1 : Int32)) dX0_leavesBy_50 (by decide) ?_
          refine g_goto 70 dX0_leavesBy_51 (by decide) ?_
          refine g_zret dX0_leavesBy_70 hxt rfl ?_
          have e := Option.some.inj h
          exact Kret _ e
    · have h := zite_p h c
      refine g_iload_n dX0_leavesBy_23 0 rfl ?_
      refine g_bipush (v := (6 : Int32)) dX0_leavesBy_24 (by decide) ?_
      refine g_iremC dX0_leavesBy_26 (by decide) ?_
      refine g_iconst (v := (5 : Int32)) dX0_leavesBy_27 (by decide) ?_
      refine g_icmp_ne 35 dX0_leavesBy_28 (by decide) (fun c => ?_) (fun c => ?_)
      · have h := zite_n h c
        refine g_iconst (v := (0 : Int32)) dX0_leavesBy_35 (by decide) ?_
        refine g_goto 70 dX0_leavesBy_36 (by decide) ?_
        refine g_zret dX0_leavesBy_70 hxt rfl ?_
        have e := Option.some.inj h
        exact Kret _ e
      · have h := zite_p h c
        refine g_iconst (v := (1 : Int32)) dX0_leavesBy_31 (by decide) ?_
        refine g_goto 70 dX0_leavesBy_32 (by decide) ?_
        refine g_zret dX0_leavesBy_70 hxt rfl ?_
        have e := Option.some.inj h
        exact Kret _ e
  · have h := zite_p h c
    refine g_iload_n dX0_leavesBy_4 0 rfl ?_
    refine g_bipush (v := (6 : Int32)) dX0_leavesBy_5 (by decide) ?_
    refine g_icmp_ge 14 dX0_leavesBy_7 (by decide) (fun c => ?_) (fun c => ?_)
    · have h := zite_p h c
      refine g_iconst (v := (0 : Int32)) dX0_leavesBy_14 (by decide) ?_
      refine g_goto 70 dX0_leavesBy_15 (by decide) ?_
      refine g_zret dX0_leavesBy_70 hxt rfl ?_
      have e := Option.some.inj h
      exact Kret _ e
    · have h := zite_n h c
      refine g_iconst (v := (1 : Int32)) dX0_leavesBy_10 (by decide) ?_
      refine g_goto 70 dX0_leavesBy_11 (by decide) ?_
      refine g_zret dX0_leavesBy_70 hxt rfl ?_
      have e := Option.some.inj h
      exact Kret _ e
/-! QuiverKin.nextCell -/
def f_X0_nextCell (a0 : Int32) (a1 : Int32) : Option (Int32) :=
if a1 = 0 then (some ((a0 + (-6 : Int32))))
else (if a1 = (1 : Int32) then (some ((a0 + (1 : Int32))))
else (if a1 = (2 : Int32) then (some ((a0 + (6 : Int32))))
else (some ((a0 + (-1 : Int32))))))
theorem hy_X0_nextCell : zHy yX0_nextCell 2 := ⟨by decide, by decide, by decide +kernel⟩
set_option maxHeartbeats 4000000 in
theorem ok_X0_nextCell (l : Launch) (g : zGd) (m : zMm) (a0 : Int32) (a1 : Int32) (z0 : Int32) (h : f_X0_nextCell a0 a1 = some z0) : zCT l yX0_nextCell cX0_nextCell 2 (some .int) 1 20 g m [.int a0, .int a1] (some (.int z0)) g m := by
  refine zCT.of (own := "QuiverKin") (mn := "nextCell") (by decide +kernel) rfl rfl (zla_i (zla_i zla_0)) (zls_i (zls_i zls_0)) (by decide) (fun X hxl hxg hxf hxt hxr hxn => ?_)
  have Kret : ∀ (y0 : Int32), y0 = z0 → zRe X g m (some (.int y0)) := by
    intro y0 e; cases e; exact ⟨hxf, hxr, hxn⟩
  subst hxl
  show zG X cX0_nextCell 2 "QuiverKin" "nextCell" 1 20 0 [(0, .int a0), (1, .int a1)] [] g m
  unfold f_X0_nextCell at h
  refine g_iload_n dX0_nextCell_0 0 rfl ?_
  refine g_iload_n dX0_nextCell_1 1 rfl ?_
  refine g_if_ne 10 dX0_nextCell_2 (by decide) (fun c => ?_) (fun c => ?_)
  · have h := zite_n h c
    refine g_iload_n dX0_nextCell_10 1 rfl ?_
    refine g_iconst (v := (1 : Int32)) dX0_nextCell_11 (by decide) ?_
    refine g_icmp_ne 19 dX0_nextCell_12 (by decide) (fun c => ?_) (fun c => ?_)
    · have h := zite_n h c
      refine g_iload_n dX0_nextCell_19 1 rfl ?_
      refine g_iconst (v := (2 : Int32)) dX0_nextCell_20 (by decide) ?_
      refine g_icmp_ne 29 dX0_nextCell_21 (by decide) (fun c => ?_) (fun c => ?_)
      · have h := zite_n h c
        refine g_iconst (v := (-1 : Int32)) dX0_nextCell_29 (by decide) ?_
        refine g_iadd dX0_nextCell_30 ?_
        refine g_iret dX0_nextCell_31 hxt ?_
        have e := Option.some.inj h
        exact Kret _ e
      · have h := zite_p h c
        refine g_bipush (v := (6 : Int32)) dX0_nextCell_24 (by decide) ?_
        refine g_goto 30 dX0_nextCell_26 (by decide) ?_
        refine g_iadd dX0_nextCell_30 ?_
        refine g_iret dX0_nextCell_31 hxt ?_
        have e := Option.some.inj h
        exact Kret _ e
    · have h := zite_p h c
      refine g_iconst (v := (1 : Int32)) dX0_nextCell_15 (by decide) ?_
      refine g_goto 30 dX0_nextCell_16 (by decide) ?_
      refine g_iadd dX0_nextCell_30 ?_
      refine g_iret dX0_nextCell_31 hxt ?_
      have e := Option.some.inj h
      exact Kret _ e
  · have h := zite_p h c
    refine g_bipush (v := (-6 : Int32)) dX0_nextCell_5 (by decide) ?_
    refine g_goto 30 dX0_nextCell_7 (by decide) ?_
    refine g_iadd dX0_nextCell_30 ?_
    refine g_iret dX0_nextCell_31 hxt ?_
    have e := Option.some.inj h
    exact Kret _ e
/-! QuiverKin.flies -/
def b_X0_flies_20 (g : zGd) (a0 : Option Nat) : zMm → Option ((((Int32 × zMm) ⊕ (zMm))) ⊕ (zMm)) := fun m8 =>
(zgi g m8 0 14 a0).bind fun v9 =>
(zgi g m8 0 16 a0).bind fun v10 =>
(f_X0_leavesBy v9 v10).bind fun v11 =>
if v11 = 0 then ((zgi g m8 0 14 a0).bind fun v12 =>
(zgi g m8 0 16 a0).bind fun v13 =>
(f_X0_nextCell v12 v13).bind fun v14 =>
(zpi g m8 0 14 a0 v14).bind fun m15 =>
(zgi g m15 0 13 a0).bind fun v16 =>
(zpi g m15 0 13 a0 (v16 + (1 : Int32))).bind fun m17 =>
(zgr g m17 0 0 a0).bind fun r18 =>
(zgr g m17 1 3 r18).bind fun r19 =>
(zgi g m17 0 14 a0).bind fun v20 =>
(zald 101 g m17 r19 v20).bind fun v21 =>
if v21 = (3 : Int32) then (some (.inl (.inl (((1 : Int32), m17)))))
else ((zgi g m17 0 13 a0).bind fun v22 =>
if v22 ≤ (144 : Int32) then ((zgi g m17 0 15 a0).bind fun v23 =>
((if v21 ≤ 0 then (some ((0 : Int32)))
else (some ((1 : Int32))) : Option (Int32))).bind fun v25 =>
(zpi g m17 0 15 a0 (v23 + v25)).bind fun m26 =>
if v21 = (1 : Int32) then ((zgi g m26 0 16 a0).bind fun v31 =>
(zpi g m26 0 16 a0 (v31 ^^^ (1 : Int32))).bind fun m32 =>
some (.inr m32))
else (if v21 = (2 : Int32) then ((zgi g m26 0 16 a0).bind fun v29 =>
(zpi g m26 0 16 a0 ((3 : Int32) - v29)).bind fun m30 =>
some (.inr m30))
else ((zgi g m26 0 16 a0).bind fun v27 =>
(zpi g m26 0 16 a0 v27).bind fun m28 =>
some (.inr m28))))
else (some (.inl (.inl (((0 : Int32), m17)))))))
else (some (.inl (.inr m8)))
def f_X0_flies (g : zGd) (m : zMm) (a0 : Option Nat) (a1 : Int32) (a2 : Int32) : Option (Int32 × zMm) :=
(zpi g m 0 13 a0 (0 : Int32)).bind fun m1 =>
(zpi g m1 0 14 a0 a1).bind fun m2 =>
(zpi g m2 0 15 a0 (0 : Int32)).bind fun m3 =>
(zpi g m3 0 16 a0 a2).bind fun m4 =>
zEx (σ := zMm) (zLoop (b_X0_flies_20 g a0) zFuel m4) fun m6 =>
some (((1 : Int32), m6))
theorem hy_X0_flies : zHy yX0_flies 2 := ⟨by decide, by decide, by decide +kernel⟩
set_option maxHeartbeats 4000000 in
theorem ok_X0_flies (l : Launch) (g : zGd) (m : zMm) (a0 : Option Nat) (a1 : Int32) (a2 : Int32) (z0 : Int32) (m0 : zMm) (h : f_X0_flies g m a0 a1 a2 = some (z0, m0)) : zCT l yX0_flies cX0_flies 4 (some .boolean) 2 41 g m [va_rf a0, .int a1, .int a2] (some (.int z0)) g m0 := by
  refine zCT.of (own := "QuiverKin") (mn := "flies") (by decide +kernel) rfl rfl (zla_r (zla_i (zla_i zla_0))) (zls_r (zls_i (zls_i zls_0))) (by decide) (fun X hxl hxg hxf hxt hxr hxn => ?_)
  have Kret : ∀ (y0 : Int32) (y1 : zMm), (y0, y1) = (z0, m0) → zRe X g y1 (some (.int y0)) := by
    intro y0 y1 e; cases e; exact ⟨hxf, hxr, hxn⟩
  subst hxl
  show zG X cX0_flies 4 "QuiverKin" "flies" 2 41 0 [(0, va_rf a0), (1, .int a1), (2, .int a2)] [] g m
  unfold f_X0_flies at h
  refine g_aload_n dX0_flies_0 0 rfl ?_
  refine g_iconst (v := (0 : Int32)) dX0_flies_1 (by decide) ?_
  refine gp_i zpd_0_13 q252 (fun _ h9 => h9) dX0_flies_2 h (fun m1 h => ?_)
  refine g_aload_n dX0_flies_5 0 rfl ?_
  refine g_iload_n dX0_flies_6 1 rfl ?_
  refine gp_i zpd_0_14 q253 (fun _ h9 => h9) dX0_flies_7 h (fun m2 h => ?_)
  refine g_aload_n dX0_flies_10 0 rfl ?_
  refine g_iconst (v := (0 : Int32)) dX0_flies_11 (by decide) ?_
  refine gp_i zpd_0_15 q254 (fun _ h9 => h9) dX0_flies_12 h (fun m3 h => ?_)
  refine g_aload_n dX0_flies_15 0 rfl ?_
  refine g_iload_n dX0_flies_16 2 rfl ?_
  refine gp_i zpd_0_16 q255 (fun _ h9 => h9) dX0_flies_17 h (fun m4 h => ?_)
  obtain ⟨o5, h1, hl5, hr5⟩ := zEx_e h
  have K5 : ∀ (m6 : zMm), o5 = .inr m6 → zG X cX0_flies 4 "QuiverKin" "flies" 2 41 148 [] [] g m6 := by
    intro m6 e
    have h := hr5 _ e
    refine g_iconst (v := (1 : Int32)) dX0_flies_148 (by decide) ?_
    refine g_zret dX0_flies_149 hxt rfl ?_
    have e := Option.some.inj h
    exact Kret _ _ e
  refine zG.sub [0] rfl ?_
  refine zLoop_ok (Φ := (fun m8 : zMm => zG X cX0_flies 4 "QuiverKin" "flies" 2 41 20 [(0, va_rf a0)] [] g m8)) o5 ?_ zFuel _ h1
  rintro m8 x7 h hl7 hr7
  unfold b_X0_flies_20 at h
  have K7 : ∀ (m8 : zMm), x7 = .inr m8 → zG X cX0_flies 4 "QuiverKin" "flies" 2 41 20 [(0, va_rf a0)] [] g m8 := by
    intro m8 e
    exact hr7 _ e
  show zG X cX0_flies 4 "QuiverKin" "flies" 2 41 20 [(0, va_rf a0)] [] g m8
  refine g_aload_n dX0_flies_20 0 rfl ?_
  refine gf_i zfd_0_14 q253  (fun _ h9 => h9) dX0_flies_21 h (fun v9 h => ?_)
  refine g_aload_n dX0_flies_24 0 rfl ?_
  refine gf_i zfd_0_16 q255  (fun _ h9 => h9) dX0_flies_25 h (fun v10 h => ?_)
  refine g_cSRv (rv := fun x : Int32 => Value.int x) [.int v9, .int v10] (fun x0 e0 => ok_X0_leavesBy (xl X) g m8 v9 v10 x0 e0) (lw_S q1223 q1224 q123 q1225) hy_X0_leavesBy rfl ⟨by decide, by decide⟩ rfl zc_0 (by decide) dX0_flies_28 h (fun v11 h => ?_)
  refine g_if_ne 148 dX0_flies_31 (by decide) (fun c => ?_) (fun c => ?_)
  · have h := zite_n h c
    refine zG.sub [] rfl ?_
    have e := Option.some.inj h
    have e := hl7 _ e.symm
    exact K5 _ e.symm
  · have h := zite_p h c
    refine g_aload_n dX0_flies_34 0 rfl ?_
    refine g_aload_n dX0_flies_35 0 rfl ?_
    refine gf_i zfd_0_14 q253  (fun _ h9 => h9) dX0_flies_36 h (fun v12 h => ?_)
    refine g_aload_n dX0_flies_39 0 rfl ?_
    refine gf_i zfd_0_16 q255  (fun _ h9 => h9) dX0_flies_40 h (fun v13 h => ?_)
    refine g_cSRv (rv := fun x : Int32 => Value.int x) [.int v12, .int v13] (fun x0 e0 => ok_X0_nextCell (xl X) g m8 v12 v13 x0 e0) (lw_S q1226 q1227 q123 q1228) hy_X0_nextCell rfl ⟨by decide, by decide⟩ rfl (zc_r zc_0) (by decide) dX0_flies_43 h (fun v14 h => ?_)
    refine gp_i zpd_0_14 q253 (fun _ h9 => h9) dX0_flies_46 h (fun m15 h => ?_)
    refine g_aload_n dX0_flies_49 0 rfl ?_
    refine g_dup dX0_flies_50 (zcat_r _) ?_
    refine gf_i zfd_0_13 q252  (fun _ h9 => h9) dX0_flies_51 h (fun v16 h => ?_)
    refine g_iconst (v := (1 : Int32)) dX0_flies_54 (by decide) ?_
    refine g_iadd dX0_flies_55 ?_
    refine gp_i zpd_0_13 q252 (fun _ h9 => h9) dX0_flies_56 h (fun m17 h => ?_)
    refine g_aload_n dX0_flies_59 0 rfl ?_
    refine gf_r zfd_0_0 q239  (fun _ h9 => h9) dX0_flies_60 h (fun r18 h => ?_)
    refine gf_rN zfd_1_3 q183  (fun _ h9 => h9) dX0_flies_63 h (fun r19 h => ?_)
    refine g_aload_n dX0_flies_66 0 rfl ?_
    refine gf_i zfd_0_14 q253  (fun _ h9 => h9) dX0_flies_67 h (fun v20 h => ?_)
    refine g_iald dX0_flies_70 h (fun v21 h => ?_)
    refine g_istore_n [(3, .int v21), (0, va_rf a0)] dX0_flies_71 (by decide) (zf_r zf_0) rfl ?_
    refine g_iload_n dX0_flies_72 0 rfl ?_
    refine g_iconst (v := (3 : Int32)) dX0_flies_73 (by decide) ?_
    refine g_icmp_ne 79 dX0_flies_74 (by decide) (fun c => ?_) (fun c => ?_)
    · have h := zite_n h c
      refine g_aload_n dX0_flies_79 1 rfl ?_
      refine gf_i zfd_0_13 q252  (fun _ h9 => h9) dX0_flies_80 h (fun v22 h => ?_)
      refine g_sipush (v := (144 : Int32)) dX0_flies_83 (by decide) ?_
      refine g_icmp_le 91 dX0_flies_86 (by decide) (fun c => ?_) (fun c => ?_)
      · have h := zite_p h c
        refine g_aload_n dX0_flies_91 1 rfl ?_
        refine g_dup dX0_flies_92 (zcat_r _) ?_
        refine gf_i zfd_0_15 q254  (fun _ h9 => h9) dX0_flies_93 h (fun v23 h => ?_)
        refine g_iload_n dX0_flies_96 0 rfl ?_
        obtain ⟨o24, h1, h2⟩ := zB_e h
        have K24 : ∀ (v25 : Int32), o24 = v25 → zG X cX0_flies 4 "QuiverKin" "flies" 2 41 105 [(0, va_rf a0), (3, .int v21)] [.int v25, .int v23, va_rf a0] g m17 := by
          intro v25 e
          rw [e] at h2
          have h := h2
          refine g_iadd dX0_flies_105 ?_
          refine gp_i zpd_0_15 q254 (fun _ h9 => h9) dX0_flies_106 h (fun m26 h => ?_)
          refine g_aload_n dX0_flies_109 0 rfl ?_
          refine g_iload_n dX0_flies_110 1 rfl ?_
          refine g_iconst (v := (1 : Int32)) dX0_flies_111 (by decide) ?_
          refine g_icmp_ne 124 dX0_flies_112 (by decide) (fun c => ?_) (fun c => ?_)
          · have h := zite_n h c
            refine g_iload_n dX0_flies_124 1 rfl ?_
            refine g_iconst (v := (2 : Int32)) dX0_flies_125 (by decide) ?_
            refine g_icmp_ne 138 dX0_flies_126 (by decide) (fun c => ?_) (fun c => ?_)
            · have h := zite_n h c
              refine g_aload_n dX0_flies_138 0 rfl ?_
              refine gf_i zfd_0_16 q255  (fun _ h9 => h9) dX0_flies_139 h (fun v27 h => ?_)
              refine gp_i zpd_0_16 q255 (fun _ h9 => h9) dX0_flies_142 h (fun m28 h => ?_)
              refine g_goto 20 dX0_flies_145 (by decide) ?_
              refine zG.sub [0] rfl ?_
              have e := Option.some.inj h
              exact K7 _ e.symm
            · have h := zite_p h c
              refine g_iconst (v := (3 : Int32)) dX0_flies_129 (by decide) ?_
              refine g_aload_n dX0_flies_130 0 rfl ?_
              refine gf_i zfd_0_16 q255  (fun _ h9 => h9) dX0_flies_131 h (fun v29 h => ?_)
              refine g_isub dX0_flies_134 ?_
              refine g_goto 142 dX0_flies_135 (by decide) ?_
              refine gp_i zpd_0_16 q255 (fun _ h9 => h9) dX0_flies_142 h (fun m30 h => ?_)
              refine g_goto 20 dX0_flies_145 (by decide) ?_
              refine zG.sub [0] rfl ?_
              have e := Option.some.inj h
              exact K7 _ e.symm
          · have h := zite_p h c
            refine g_aload_n dX0_flies_115 0 rfl ?_
            refine gf_i zfd_0_16 q255  (fun _ h9 => h9) dX0_flies_116 h (fun v31 h => ?_)
            refine g_iconst (v := (1 : Int32)) dX0_flies_119 (by decide) ?_
            refine g_ixor dX0_flies_120 ?_
            refine g_goto 142 dX0_flies_121 (by decide) ?_
            refine gp_i zpd_0_16 q255 (fun _ h9 => h9) dX0_flies_142 h (fun m32 h => ?_)
            refine g_goto 20 dX0_flies_145 (by decide) ?_
            refine zG.sub [0] rfl ?_
            have e := Option.some.inj h
            exact K7 _ e.symm
        have h := h1
        refine g_if_le 104 dX0_flies_97 (by decide) (fun c => ?_) (fun c => ?_)
        · have h := zite_p h c
          refine g_iconst (v := (0 : Int32)) dX0_flies_104 (by decide) ?_
          refine zG.sub [1, 0] rfl ?_
          have e := Option.some.inj h
          exact K24 _ e.symm
        · have h := zite_n h c
          refine g_iconst (v := (1 : Int32)) dX0_flies_100 (by decide) ?_
          refine g_goto 105 dX0_flies_101 (by decide) ?_
          refine zG.sub [1, 0] rfl ?_
          have e := Option.some.inj h
          exact K24 _ e.symm
      · have h := zite_n h c
        refine g_iconst (v := (0 : Int32)) dX0_flies_89 (by decide) ?_
        refine g_zret dX0_flies_90 hxt rfl ?_
        have e := Option.some.inj h
        have e := hl7 _ e.symm
        have e := hl5 _ e.symm
        exact Kret _ _ e
    · have h := zite_p h c
      refine g_iconst (v := (1 : Int32)) dX0_flies_77 (by decide) ?_
      refine g_zret dX0_flies_78 hxt rfl ?_
      have e := Option.some.inj h
      have e := hl7 _ e.symm
      have e := hl5 _ e.symm
      exact Kret _ _ e
/-! QuiverKin.isFlight -/
def f_X0_isFlight (a0 : Int32) (a1 : Int32) : Option (Int32) :=
(f_X0_in a0 (0 : Int32) (35 : Int32)).bind fun v1 =>
if v1 = 0 then (some ((0 : Int32)))
else ((f_X0_in a1 (0 : Int32) (3 : Int32)).bind fun v2 =>
if v2 = 0 then (some ((0 : Int32)))
else (some ((1 : Int32))))
theorem hy_X0_isFlight : zHy yX0_isFlight 2 := ⟨by decide, by decide, by decide +kernel⟩
set_option maxHeartbeats 4000000 in
theorem ok_X0_isFlight (l : Launch) (g : zGd) (m : zMm) (a0 : Int32) (a1 : Int32) (z0 : Int32) (h : f_X0_isFlight a0 a1 = some z0) : zCT l yX0_isFlight cX0_isFlight 2 (some .boolean) 2 42 g m [.int a0, .int a1] (some (.int z0)) g m := by
  refine zCT.of (own := "QuiverKin") (mn := "isFlight") (by decide +kernel) rfl rfl (zla_i (zla_i zla_0)) (zls_i (zls_i zls_0)) (by decide) (fun X hxl hxg hxf hxt hxr hxn => ?_)
  have Kret : ∀ (y0 : Int32), y0 = z0 → zRe X g m (some (.int y0)) := by
    intro y0 e; cases e; exact ⟨hxf, hxr, hxn⟩
  subst hxl
  show zG X cX0_isFlight 2 "QuiverKin" "isFlight" 2 42 0 [(0, .int a0), (1, .int a1)] [] g m
  unfold f_X0_isFlight at h
  refine g_iload_n dX0_isFlight_0 0 rfl ?_
  refine g_iconst (v := (0 : Int32)) dX0_isFlight_1 (by decide) ?_
  refine g_bipush (v := (35 : Int32)) dX0_isFlight_2 (by decide) ?_
  refine g_cSRv (rv := fun x : Int32 => Value.int x) [.int a0, .int (0 : Int32), .int (35 : Int32)] (fun x0 e0 => ok_X0_in (xl X) g m a0 (0 : Int32) (35 : Int32) x0 e0) (lw_S q312 q313 q123 q314) hy_X0_in rfl ⟨by decide, by decide⟩ rfl zc_0 (by decide) dX0_isFlight_4 h (fun v1 h => ?_)
  refine g_if_eq 23 dX0_isFlight_7 (by decide) (fun c => ?_) (fun c => ?_)
  · have h := zite_p h c
    refine g_iconst (v := (0 : Int32)) dX0_isFlight_23 (by decide) ?_
    refine g_zret dX0_isFlight_24 hxt rfl ?_
    have e := Option.some.inj h
    exact Kret _ e
  · have h := zite_n h c
    refine g_iload_n dX0_isFlight_10 1 rfl ?_
    refine g_iconst (v := (0 : Int32)) dX0_isFlight_11 (by decide) ?_
    refine g_iconst (v := (3 : Int32)) dX0_isFlight_12 (by decide) ?_
    refine g_cSRv (rv := fun x : Int32 => Value.int x) [.int a1, .int (0 : Int32), .int (3 : Int32)] (fun x0 e0 => ok_X0_in (xl X) g m a1 (0 : Int32) (3 : Int32) x0 e0) (lw_S q312 q313 q123 q314) hy_X0_in rfl ⟨by decide, by decide⟩ rfl zc_0 (by decide) dX0_isFlight_13 h (fun v2 h => ?_)
    refine g_if_eq 23 dX0_isFlight_16 (by decide) (fun c => ?_) (fun c => ?_)
    · have h := zite_p h c
      refine g_iconst (v := (0 : Int32)) dX0_isFlight_23 (by decide) ?_
      refine g_zret dX0_isFlight_24 hxt rfl ?_
      have e := Option.some.inj h
      exact Kret _ e
    · have h := zite_n h c
      refine g_iconst (v := (1 : Int32)) dX0_isFlight_19 (by decide) ?_
      refine g_goto 24 dX0_isFlight_20 (by decide) ?_
      refine g_zret dX0_isFlight_24 hxt rfl ?_
      have e := Option.some.inj h
      exact Kret _ e
/-! QuiverKin.flight -/
def f_X0_flight (g : zGd) (m : zMm) (a0 : Option Nat) (a1 : Int32) (a2 : Int32) (a3 : Int32) : Option (Int32 × zMm) :=
(f_X0_isFlight a1 a2).bind fun v1 =>
if v1 = 0 then (some (((-1 : Int32), m)))
else ((zrc g 0 a0 (f_X0_flies g m a0 a1 a2)).bind fun (v2, m3) =>
if v2 = 0 then (some (((-1 : Int32), m3)))
else (if a3 = 0 then ((zgi g m3 0 13 a0).bind fun v7 =>
some ((v7, m3)))
else (if a3 = (1 : Int32) then ((zgi g m3 0 14 a0).bind fun v6 =>
some ((v6, m3)))
else (if a3 = (2 : Int32) then ((zgi g m3 0 15 a0).bind fun v5 =>
some ((v5, m3)))
else (if a3 = (3 : Int32) then ((zgi g m3 0 16 a0).bind fun v4 =>
some ((v4, m3)))
else (some (((-1 : Int32), m3))))))))
theorem hy_X0_flight : zHy yX0_flight 3 := ⟨by decide, by decide, by decide +kernel⟩
set_option maxHeartbeats 4000000 in
theorem ok_X0_flight (l : Launch) (g : zGd) (m : zMm) (a0 : Option Nat) (a1 : Int32) (a2 : Int32) (a3 : Int32) (z0 : Int32) (m0 : zMm) (h : f_X0_flight g m a0 a1 a2 a3 = some (z0, m0)) : zCT l yX0_flight cX0_flight 4 (some .int) 3 64 g m [va_rf a0, .int a1, .int a2, .int a3] (some (.int z0)) g m0 := by
  refine zCT.of (own := "QuiverKin") (mn := "flight") (by decide +kernel) rfl rfl (zla_r (zla_i (zla_i (zla_i zla_0)))) (zls_r (zls_i (zls_i (zls_i zls_0)))) (by decide) (fun X hxl hxg hxf hxt hxr hxn => ?_)
  have Kret : ∀ (y0 : Int32) (y1 : zMm), (y0, y1) = (z0, m0) → zRe X g y1 (some (.int y0)) := by
    intro y0 y1 e; cases e; exact ⟨hxf, hxr, hxn⟩
  subst hxl
  show zG X cX0_flight 4 "QuiverKin" "flight" 3 64 0 [(0, va_rf a0), (1, .int a1), (2, .int a2), (3, .int a3)] [] g m
  unfold f_X0_flight at h
  refine g_iload_n dX0_flight_0 1 rfl ?_
  refine g_iload_n dX0_flight_1 2 rfl ?_
  refine g_cSRv (rv := fun x : Int32 => Value.int x) [.int a1, .int a2] (fun x0 e0 => ok_X0_isFlight (xl X) g m a1 a2 x0 e0) (lw_S q1216 q1217 q123 q1218) hy_X0_isFlight rfl ⟨by decide, by decide⟩ rfl zc_0 (by decide) dX0_flight_2 h (fun v1 h => ?_)
  refine g_if_eq 17 dX0_flight_5 (by decide) (fun c => ?_) (fun c => ?_)
  · have h := zite_p h c
    refine g_iconst (v := (-1 : Int32)) dX0_flight_17 (by decide) ?_
    refine g_iret dX0_flight_18 hxt ?_
    have e := Option.some.inj h
    exact Kret _ _ e
  · have h := zite_n h c
    refine g_aload_n dX0_flight_8 0 rfl ?_
    refine g_iload_n dX0_flight_9 1 rfl ?_
    refine g_iload_n dX0_flight_10 2 rfl ?_
    refine g_cVMv (rv := fun x : Int32 => Value.int x) [.int a1, .int a2] (fun x0 m0 e0 => ok_X0_flies (xl X) g m a0 a1 a2 x0 m0 e0) zc0 (by decide) (lw_V q1219 q1221 qs45 q123 q1222) rfl hy_X0_flies rfl ⟨by decide, by decide⟩ rfl zc_0 (by decide) dX0_flight_11 h (fun v2 m3 h => ?_)
    refine g_if_ne 19 dX0_flight_14 (by decide) (fun c => ?_) (fun c => ?_)
    · have h := zite_n h c
      refine g_iload_n dX0_flight_19 3 rfl ?_
      refine g_if_ne 30 dX0_flight_20 (by decide) (fun c => ?_) (fun c => ?_)
      · have h := zite_n h c
        refine g_iload_n dX0_flight_30 3 rfl ?_
        refine g_iconst (v := (1 : Int32)) dX0_flight_31 (by decide) ?_
        refine g_icmp_ne 42 dX0_flight_32 (by decide) (fun c => ?_) (fun c => ?_)
        · have h := zite_n h c
          refine g_iload_n dX0_flight_42 3 rfl ?_
          refine g_iconst (v := (2 : Int32)) dX0_flight_43 (by decide) ?_
          refine g_icmp_ne 54 dX0_flight_44 (by decide) (fun c => ?_) (fun c => ?_)
          · have h := zite_n h c
            refine g_iload_n dX0_flight_54 3 rfl ?_
            refine g_iconst (v := (3 : Int32)) dX0_flight_55 (by decide) ?_
            refine g_icmp_ne 66 dX0_flight_56 (by decide) (fun c => ?_) (fun c => ?_)
            · have h := zite_n h c
              refine g_iconst (v := (-1 : Int32)) dX0_flight_66 (by decide) ?_
              refine g_iret dX0_flight_67 hxt ?_
              have e := Option.some.inj h
              exact Kret _ _ e
            · have h := zite_p h c
              refine g_aload_n dX0_flight_59 0 rfl ?_
              refine gf_i zfd_0_16 q255  (fun _ h9 => h9) dX0_flight_60 h (fun v4 h => ?_)
              refine g_goto 67 dX0_flight_63 (by decide) ?_
              refine g_iret dX0_flight_67 hxt ?_
              have e := Option.some.inj h
              exact Kret _ _ e
          · have h := zite_p h c
            refine g_aload_n dX0_flight_47 0 rfl ?_
            refine gf_i zfd_0_15 q254  (fun _ h9 => h9) dX0_flight_48 h (fun v5 h => ?_)
            refine g_goto 67 dX0_flight_51 (by decide) ?_
            refine g_iret dX0_flight_67 hxt ?_
            have e := Option.some.inj h
            exact Kret _ _ e
        · have h := zite_p h c
          refine g_aload_n dX0_flight_35 0 rfl ?_
          refine gf_i zfd_0_14 q253  (fun _ h9 => h9) dX0_flight_36 h (fun v6 h => ?_)
          refine g_goto 67 dX0_flight_39 (by decide) ?_
          refine g_iret dX0_flight_67 hxt ?_
          have e := Option.some.inj h
          exact Kret _ _ e
      · have h := zite_p h c
        refine g_aload_n dX0_flight_23 0 rfl ?_
        refine gf_i zfd_0_13 q252  (fun _ h9 => h9) dX0_flight_24 h (fun v7 h => ?_)
        refine g_goto 67 dX0_flight_27 (by decide) ?_
        refine g_iret dX0_flight_67 hxt ?_
        have e := Option.some.inj h
        exact Kret _ _ e
    · have h := zite_p h c
      refine g_iconst (v := (-1 : Int32)) dX0_flight_17 (by decide) ?_
      refine g_iret dX0_flight_18 hxt ?_
      have e := Option.some.inj h
      exact Kret _ _ e
/-! QuiverKin.comes -/
def b_X0_comes_20 (g : zGd) (a0 : Option Nat) (a1 : Int32) (a2 : Int32) (v5 : Int32) : Int32 × zMm → Option ((((((((Int32 × zMm) ⊕ (zMm))) ⊕ (Int32 × zMm))) ⊕ (zMm))) ⊕ (Int32 × zMm)) := fun (v10, m11) =>
if (36 : Int32) ≤ v10 then (some (.inl (.inr m11)))
else ((f_X0_leavesBy v10 (v5 ^^^ (2 : Int32))).bind fun v12 =>
if v12 = 0 then (zlt (v10 + (1 : Int32)) fun v13 =>
some (.inr (v13, m11)))
else ((zrc g 0 a0 (f_X0_flies g m11 a0 v10 v5)).bind fun (v14, m15) =>
if v14 = 0 then (zlt (v10 + (1 : Int32)) fun v16 =>
some (.inr (v16, m15)))
else ((zgi g m15 0 14 a0).bind fun v17 =>
if v17 = a1 then ((zgi g m15 0 16 a0).bind fun v19 =>
if v19 = a2 then (some (.inl (.inl (.inl (.inl (((((36 : Int32) * v5) + v10), m15)))))))
else (zlt (v10 + (1 : Int32)) fun v20 =>
some (.inr (v20, m15))))
else (zlt (v10 + (1 : Int32)) fun v18 =>
some (.inr (v18, m15))))))
def b_X0_comes_12 (g : zGd) (a0 : Option Nat) (a1 : Int32) (a2 : Int32) : Int32 × zMm → Option ((((Int32 × zMm) ⊕ (zMm))) ⊕ (Int32 × zMm)) := fun (v5, m6) =>
if (4 : Int32) ≤ v5 then (some (.inl (.inr m6)))
else (zEx (σ := zMm) (zLoop (b_X0_comes_20 g a0 a1 a2 v5) zFuel ((0 : Int32), m6)) fun m8 =>
zlt (v5 + (1 : Int32)) fun v21 =>
some (.inr (v21, m8)))
def f_X0_comes (g : zGd) (m : zMm) (a0 : Option Nat) (a1 : Int32) (a2 : Int32) : Option (Int32 × zMm) :=
(f_X0_isFlight a1 a2).bind fun v1 =>
if v1 = 0 then (some (((-1 : Int32), m)))
else (zEx (σ := zMm) (zLoop (b_X0_comes_12 g a0 a1 a2) zFuel ((0 : Int32), m)) fun m3 =>
some (((-1 : Int32), m3)))
theorem hy_X0_comes : zHy yX0_comes 2 := ⟨by decide, by decide, by decide +kernel⟩
set_option maxHeartbeats 4000000 in
theorem ok_X0_comes (l : Launch) (g : zGd) (m : zMm) (a0 : Option Nat) (a1 : Int32) (a2 : Int32) (z0 : Int32) (m0 : zMm) (h : f_X0_comes g m a0 a1 a2 = some (z0, m0)) : zCT l yX0_comes cX0_comes 5 (some .int) 3 64 g m [va_rf a0, .int a1, .int a2] (some (.int z0)) g m0 := by
  refine zCT.of (own := "QuiverKin") (mn := "comes") (by decide +kernel) rfl rfl (zla_r (zla_i (zla_i zla_0))) (zls_r (zls_i (zls_i zls_0))) (by decide) (fun X hxl hxg hxf hxt hxr hxn => ?_)
  have Kret : ∀ (y0 : Int32) (y1 : zMm), (y0, y1) = (z0, m0) → zRe X g y1 (some (.int y0)) := by
    intro y0 y1 e; cases e; exact ⟨hxf, hxr, hxn⟩
  subst hxl
  show zG X cX0_comes 5 "QuiverKin" "comes" 3 64 0 [(0, va_rf a0), (1, .int a1), (2, .int a2)] [] g m
  unfold f_X0_comes at h
  refine g_iload_n dX0_comes_0 1 rfl ?_
  refine g_iload_n dX0_comes_1 2 rfl ?_
  refine g_cSRv (rv := fun x : Int32 => Value.int x) [.int a1, .int a2] (fun x0 e0 => ok_X0_isFlight (xl X) g m a1 a2 x0 e0) (lw_S q1216 q1217 q123 q1218) hy_X0_isFlight rfl ⟨by decide, by decide⟩ rfl zc_0 (by decide) dX0_comes_2 h (fun v1 h => ?_)
  refine g_if_ne 10 dX0_comes_5 (by decide) (fun c => ?_) (fun c => ?_)
  · have h := zite_n h c
    refine g_iconst (v := (0 : Int32)) dX0_comes_10 (by decide) ?_
    refine g_istore_n [(3, .int (0 : Int32)), (0, va_rf a0), (1, .int a1), (2, .int a2)] dX0_comes_11 (by decide) (zf_r (zf_i (zf_i zf_0))) rfl ?_
    obtain ⟨o2, h1, hl2, hr2⟩ := zEx_e h
    have K2 : ∀ (m3 : zMm), o2 = .inr m3 → zG X cX0_comes 5 "QuiverKin" "comes" 3 64 84 [] [] g m3 := by
      intro m3 e
      have h := hr2 _ e
      refine g_iconst (v := (-1 : Int32)) dX0_comes_84 (by decide) ?_
      refine g_iret dX0_comes_85 hxt ?_
      have e := Option.some.inj h
      exact Kret _ _ e
    refine zG.sub [1, 2, 3, 0] rfl ?_
    refine zLoop_ok (Φ := (fun (q : Int32 × zMm) => match q with | (v5, m6) => zG X cX0_comes 5 "QuiverKin" "comes" 3 64 12 [(0, va_rf a0), (1, .int a1), (2, .int a2), (3, .int v5)] [] g m6)) o2 ?_ zFuel _ h1
    rintro ⟨v5, m6⟩ x4 h hl4 hr4
    unfold b_X0_comes_12 at h
    have K4 : ∀ (v5 : Int32) (m6 : zMm), x4 = .inr (v5, m6) → zG X cX0_comes 5 "QuiverKin" "comes" 3 64 12 [(0, va_rf a0), (1, .int a1), (2, .int a2), (3, .int v5)] [] g m6 := by
      intro v5 m6 e
      exact hr4 _ e
    show zG X cX0_comes 5 "QuiverKin" "comes" 3 64 12 [(0, va_rf a0), (1, .int a1), (2, .int a2), (3, .int v5)] [] g m6
    refine g_iload_n dX0_comes_12 3 rfl ?_
    refine g_iconst (v := (4 : Int32)) dX0_comes_13 (by decide) ?_
    refine g_icmp_ge 84 dX0_comes_14 (by decide) (fun c => ?_) (fun c => ?_)
    · have h := zite_p h c
      refine zG.sub [] rfl ?_
      have e := Option.some.inj h
      have e := hl4 _ e.symm
      exact K2 _ e.symm
    · have h := zite_n h c
      refine g_iconst (v := (0 : Int32)) dX0_comes_17 (by decide) ?_
      refine g_istore [(4, .int (0 : Int32)), (0, va_rf a0), (1, .int a1), (2, .int a2), (3, .int v5)] dX0_comes_18 (by decide) (zf_r (zf_i (zf_i (zf_i zf_0)))) rfl ?_
      obtain ⟨o7, h1, hl7, hr7⟩ := zEx_e h
      have K7 : ∀ (m8 : zMm), o7 = .inr m8 → zG X cX0_comes 5 "QuiverKin" "comes" 3 64 78 [(0, va_rf a0), (1, .int a1), (2, .int a2), (3, .int v5)] [] g m8 := by
        intro m8 e
        have h := hr7 _ e
        refine g_iinc (v := (1 : Int32)) [(0, va_rf a0), (1, .int a1), (2, .int a2)] dX0_comes_78 3 rfl (by decide) (by decide) (zf_r (zf_i (zf_i (zf_i zf_0)))) rfl h (fun v21 h => ?_)
        refine g_goto 12 dX0_comes_81 (by decide) ?_
        refine zG.sub [1, 2, 3, 0] rfl ?_
        have e := Option.some.inj h
        exact K4 _ _ e.symm
      refine zG.sub [1, 2, 3, 4, 0] rfl ?_
      refine zLoop_ok (Φ := (fun (q : Int32 × zMm) => match q with | (v10, m11) => zG X cX0_comes 5 "QuiverKin" "comes" 3 64 20 [(0, va_rf a0), (1, .int a1), (2, .int a2), (3, .int v5), (4, .int v10)] [] g m11)) o7 ?_ zFuel _ h1
      rintro ⟨v10, m11⟩ x9 h hl9 hr9
      unfold b_X0_comes_20 at h
      have K9 : ∀ (v10 : Int32) (m11 : zMm), x9 = .inr (v10, m11) → zG X cX0_comes 5 "QuiverKin" "comes" 3 64 20 [(0, va_rf a0), (1, .int a1), (2, .int a2), (3, .int v5), (4, .int v10)] [] g m11 := by
        intro v10 m11 e
        exact hr9 _ e
      show zG X cX0_comes 5 "QuiverKin" "comes" 3 64 20 [(0, va_rf a0), (1, .int a1), (2, .int a2), (3, .int v5), (4, .int v10)] [] g m11
      refine g_iload dX0_comes_20 4 rfl ?_
      refine g_bipush (v := (36 : Int32)) dX0_comes_22 (by decide) ?_
      refine g_icmp_ge 78 dX0_comes_24 (by decide) (fun c => ?_) (fun c => ?_)
      · have h := zite_p h c
        refine zG.sub [0, 1, 2, 3] rfl ?_
        have e := Option.some.inj h
        have e := hl9 _ e.symm
        exact K7 _ e.symm
      · have h := zite_n h c
        refine g_iload dX0_comes_27 4 rfl ?_
        refine g_iload_n dX0_comes_29 3 rfl ?_
        refine g_iconst (v := (2 : Int32)) dX0_comes_30 (by decide) ?_
        refine g_ixor dX0_comes_31 ?_
        refine g_cSRv (rv := fun x : Int32 => Value.int x) [.int v10, .int (v5 ^^^ (2 : Int32))] (fun x0 e0 => ok_X0_leavesBy (xl X) g m11 v10 (v5 ^^^ (2 : Int32)) x0 e0) (lw_S q1223 q1224 q123 q1225) hy_X0_leavesBy rfl ⟨by decide, by decide⟩ rfl zc_0 (by decide) dX0_comes_32 h (fun v12 h => ?_)
        refine g_if_eq 72 dX0_comes_35 (by decide) (fun c => ?_) (fun c => ?_)
        · have h := zite_p h c
          refine g_iinc (v := (1 : Int32)) [(0, va_rf a0), (1, .int a1), (2, .int a2), (3, .int v5)] dX0_comes_72 4 rfl (by decide) (by decide) (zf_r (zf_i (zf_i (zf_i (zf_i zf_0))))) rfl h (fun v13 h => ?_)
          refine g_goto 20 dX0_comes_75 (by decide) ?_
          refine zG.sub [1, 2, 3, 4, 0] rfl ?_
          have e := Option.some.inj h
          exact K9 _ _ e.symm
        · have h := zite_n h c
          refine g_aload_n dX0_comes_38 0 rfl ?_
          refine g_iload dX0_comes_39 4 rfl ?_
          refine g_iload_n dX0_comes_41 3 rfl ?_
          refine g_cVMv (rv := fun x : Int32 => Value.int x) [.int v10, .int v5] (fun x0 m0 e0 => ok_X0_flies (xl X) g m11 a0 v10 v5 x0 m0 e0) zc0 (by decide) (lw_V q1219 q1221 qs45 q123 q1222) rfl hy_X0_flies rfl ⟨by decide, by decide⟩ rfl zc_0 (by decide) dX0_comes_42 h (fun v14 m15 h => ?_)
          refine g_if_eq 72 dX0_comes_45 (by decide) (fun c => ?_) (fun c => ?_)
          · have h := zite_p h c
            refine g_iinc (v := (1 : Int32)) [(0, va_rf a0), (1, .int a1), (2, .int a2), (3, .int v5)] dX0_comes_72 4 rfl (by decide) (by decide) (zf_r (zf_i (zf_i (zf_i (zf_i zf_0))))) rfl h (fun v16 h => ?_)
            refine g_goto 20 dX0_comes_75 (by decide) ?_
            refine zG.sub [1, 2, 3, 4, 0] rfl ?_
            have e := Option.some.inj h
            exact K9 _ _ e.symm
          · have h := zite_n h c
            refine g_aload_n dX0_comes_48 0 rfl ?_
            refine gf_i zfd_0_14 q253  (fun _ h9 => h9) dX0_comes_49 h (fun v17 h => ?_)
            refine g_iload_n dX0_comes_52 1 rfl ?_
            refine g_icmp_ne 72 dX0_comes_53 (by decide) (fun c => ?_) (fun c => ?_)
            · have h := zite_n h c
              refine g_iinc (v := (1 : Int32)) [(0, va_rf a0), (1, .int a1), (2, .int a2), (3, .int v5)] dX0_comes_72 4 rfl (by decide) (by decide) (zf_r (zf_i (zf_i (zf_i (zf_i zf_0))))) rfl h (fun v18 h => ?_)
              refine g_goto 20 dX0_comes_75 (by decide) ?_
              refine zG.sub [1, 2, 3, 4, 0] rfl ?_
              have e := Option.some.inj h
              exact K9 _ _ e.symm
            · have h := zite_p h c
              refine g_aload_n dX0_comes_56 0 rfl ?_
              refine gf_i zfd_0_16 q255  (fun _ h9 => h9) dX0_comes_57 h (fun v19 h => ?_)
              refine g_iload_n dX0_comes_60 2 rfl ?_
              refine g_icmp_ne 72 dX0_comes_61 (by decide) (fun c => ?_) (fun c => ?_)
              · have h := zite_n h c
                refine g_iinc (v := (1 : Int32)) [(0, va_rf a0), (1, .int a1), (2, .int a2), (3, .int v5)] dX0_comes_72 4 rfl (by decide) (by decide) (zf_r (zf_i (zf_i (zf_i (zf_i zf_0))))) rfl h (fun v20 h => ?_)
                refine g_goto 20 dX0_comes_75 (by decide) ?_
                refine zG.sub [1, 2, 3, 4, 0] rfl ?_
                have e := Option.some.inj h
                exact K9 _ _ e.symm
              · have h := zite_p h c
                refine g_bipush (v := (36 : Int32)) dX0_comes_64 (by decide) ?_
                refine g_iload_n dX0_comes_66 3 rfl ?_
                refine g_imul dX0_comes_67 ?_
                refine g_iload dX0_comes_68 4 rfl ?_
                refine g_iadd dX0_comes_70 ?_
                refine g_iret dX0_comes_71 hxt ?_
                have e := Option.some.inj h
                have e := hl9 _ e.symm
                have e := hl7 _ e.symm
                have e := hl4 _ e.symm
                have e := hl2 _ e.symm
                exact Kret _ _ e
  · have h := zite_p h c
    refine g_iconst (v := (-1 : Int32)) dX0_comes_8 (by decide) ?_
    refine g_iret dX0_comes_9 hxt ?_
    have e := Option.some.inj h
    exact Kret _ _ e
/-! QuiverKin.isRow -/
def f_X0_isRow (a0 : Int32) : Option (Int32) :=
(f_X0_in a0 (0 : Int32) (124 : Int32)).bind fun v1 =>
(zbo v1).bind fun z =>
some (z)
theorem hy_X0_isRow : zHy yX0_isRow 1 := ⟨by decide, by decide, by decide +kernel⟩
set_option maxHeartbeats 4000000 in
theorem ok_X0_isRow (l : Launch) (g : zGd) (m : zMm) (a0 : Int32) (z0 : Int32) (h : f_X0_isRow a0 = some z0) : zCT l yX0_isRow cX0_isRow 1 (some .boolean) 2 42 g m [.int a0] (some (.int z0)) g m := by
  refine zCT.of (own := "QuiverKin") (mn := "isRow") (by decide +kernel) rfl rfl (zla_i zla_0) (zls_i zls_0) (by decide) (fun X hxl hxg hxf hxt hxr hxn => ?_)
  have Kret : ∀ (y0 : Int32), y0 = z0 → zRe X g m (some (.int y0)) := by
    intro y0 e; cases e; exact ⟨hxf, hxr, hxn⟩
  subst hxl
  show zG X cX0_isRow 1 "QuiverKin" "isRow" 2 42 0 [(0, .int a0)] [] g m
  unfold f_X0_isRow at h
  refine g_iload_n dX0_isRow_0 0 rfl ?_
  refine g_iconst (v := (0 : Int32)) dX0_isRow_1 (by decide) ?_
  refine g_bipush (v := (124 : Int32)) dX0_isRow_2 (by decide) ?_
  refine g_cSRv (rv := fun x : Int32 => Value.int x) [.int a0, .int (0 : Int32), .int (124 : Int32)] (fun x0 e0 => ok_X0_in (xl X) g m a0 (0 : Int32) (124 : Int32) x0 e0) (lw_S q312 q313 q123 q314) hy_X0_in rfl ⟨by decide, by decide⟩ rfl zc_0 (by decide) dX0_isRow_4 h (fun v1 h => ?_)
  obtain ⟨hn, h⟩ := zbo_e h
  refine g_zret dX0_isRow_7 hxt hn ?_
  have e := Option.some.inj h
  exact Kret _ e
/-! QuiverKin$State.adds -/
def f_X1_adds (g : zGd) (m : zMm) (a0 : Option Nat) (a1 : Option Nat) (a2 : Int32) (a3 : Int32) (a4 : Int32) : Option (Int32 × zMm) :=
(zgr g m 1 0 a0).bind fun r1 =>
(zald 101 g m r1 a2).bind fun v2 =>
(zaldr 106 g m a1 v2).bind fun r3 =>
(zast 101 g m r3 (0 : Int32) a3).bind fun m4 =>
(zgr g m4 1 0 a0).bind fun r5 =>
(zald 101 g m4 r5 a2).bind fun v6 =>
(zaldr 106 g m4 a1 v6).bind fun r7 =>
(zast 101 g m4 r7 (1 : Int32) a4).bind fun m8 =>
(zgr g m8 1 0 a0).bind fun r9 =>
(zald 101 g m8 r9 a2).bind fun v10 =>
(zast 101 g m8 r9 a2 (v10 + (1 : Int32))).bind fun m11 =>
(zgr g m11 1 0 a0).bind fun r12 =>
(zald 101 g m11 r12 a2).bind fun v13 =>
some ((v13, m11))
theorem hy_X1_adds : zHy yX1_adds 4 := ⟨by decide, by decide, by decide +kernel⟩
set_option maxHeartbeats 4000000 in
theorem ok_X1_adds (l : Launch) (g : zGd) (m : zMm) (a0 : Option Nat) (a1 : Option Nat) (a2 : Int32) (a3 : Int32) (a4 : Int32) (z0 : Int32) (m0 : zMm) (h : f_X1_adds g m a0 a1 a2 a3 a4 = some (z0, m0)) : zCT l yX1_adds cX1_adds 5 (some .int) 1 20 g m [va_rf a0, va_rf a1, .int a2, .int a3, .int a4] (some (.int z0)) g m0 := by
  refine zCT.of (own := "QuiverKin$State") (mn := "adds") (by decide +kernel) rfl rfl (zla_r (zla_r (zla_i (zla_i (zla_i zla_0))))) (zls_r (zls_r (zls_i (zls_i (zls_i zls_0))))) (by decide) (fun X hxl hxg hxf hxt hxr hxn => ?_)
  have Kret : ∀ (y0 : Int32) (y1 : zMm), (y0, y1) = (z0, m0) → zRe X g y1 (some (.int y0)) := by
    intro y0 y1 e; cases e; exact ⟨hxf, hxr, hxn⟩
  subst hxl
  show zG X cX1_adds 5 "QuiverKin$State" "adds" 1 20 0 [(0, va_rf a0), (1, va_rf a1), (2, .int a2), (3, .int a3), (4, .int a4)] [] g m
  unfold f_X1_adds at h
  refine g_aload_n dX1_adds_0 1 rfl ?_
  refine g_aload_n dX1_adds_1 0 rfl ?_
  refine gf_r zfd_1_0 q176  (fun _ h9 => h9) dX1_adds_2 h (fun r1 h => ?_)
  refine g_iload_n dX1_adds_5 2 rfl ?_
  refine g_iald dX1_adds_6 h (fun v2 h => ?_)
  refine g_aald 5 rfl rfl (by decide)  dX1_adds_7 h (fun r3 h => ?_)
  refine g_iconst (v := (0 : Int32)) dX1_adds_8 (by decide) ?_
  refine g_iload_n dX1_adds_9 3 rfl ?_
  refine g_iast dX1_adds_10 h (fun m4 h => ?_)
  refine g_aload_n dX1_adds_11 1 rfl ?_
  refine g_aload_n dX1_adds_12 0 rfl ?_
  refine gf_r zfd_1_0 q176  (fun _ h9 => h9) dX1_adds_13 h (fun r5 h => ?_)
  refine g_iload_n dX1_adds_16 2 rfl ?_
  refine g_iald dX1_adds_17 h (fun v6 h => ?_)
  refine g_aald 5 rfl rfl (by decide)  dX1_adds_18 h (fun r7 h => ?_)
  refine g_iconst (v := (1 : Int32)) dX1_adds_19 (by decide) ?_
  refine g_iload dX1_adds_20 4 rfl ?_
  refine g_iast dX1_adds_22 h (fun m8 h => ?_)
  refine g_aload_n dX1_adds_23 0 rfl ?_
  refine gf_r zfd_1_0 q176  (fun _ h9 => h9) dX1_adds_24 h (fun r9 h => ?_)
  refine g_iload_n dX1_adds_27 2 rfl ?_
  refine g_dup2 dX1_adds_28 rfl (zcat_r _) ?_
  refine g_iald dX1_adds_29 h (fun v10 h => ?_)
  refine g_iconst (v := (1 : Int32)) dX1_adds_30 (by decide) ?_
  refine g_iadd dX1_adds_31 ?_
  refine g_iast dX1_adds_32 h (fun m11 h => ?_)
  refine g_aload_n dX1_adds_33 0 rfl ?_
  refine gf_r zfd_1_0 q176  (fun _ h9 => h9) dX1_adds_34 h (fun r12 h => ?_)
  refine g_iload_n dX1_adds_37 2 rfl ?_
  refine g_iald dX1_adds_38 h (fun v13 h => ?_)
  refine g_iret dX1_adds_39 hxt ?_
  have e := Option.some.inj h
  exact Kret _ _ e
/-! QuiverKin$State.clears -/
def f_X1_clears (g : zGd) (m : zMm) (a0 : Option Nat) (a1 : Int32) : Option (Int32 × zMm) :=
(zgr g m 1 0 a0).bind fun r1 =>
(zast 101 g m r1 a1 (0 : Int32)).bind fun m2 =>
some (((0 : Int32), m2))
theorem hy_X1_clears : zHy yX1_clears 1 := ⟨by decide, by decide, by decide +kernel⟩
set_option maxHeartbeats 4000000 in
theorem ok_X1_clears (l : Launch) (g : zGd) (m : zMm) (a0 : Option Nat) (a1 : Int32) (z0 : Int32) (m0 : zMm) (h : f_X1_clears g m a0 a1 = some (z0, m0)) : zCT l yX1_clears cX1_clears 2 (some .int) 1 20 g m [va_rf a0, .int a1] (some (.int z0)) g m0 := by
  refine zCT.of (own := "QuiverKin$State") (mn := "clears") (by decide +kernel) rfl rfl (zla_r (zla_i zla_0)) (zls_r (zls_i zls_0)) (by decide) (fun X hxl hxg hxf hxt hxr hxn => ?_)
  have Kret : ∀ (y0 : Int32) (y1 : zMm), (y0, y1) = (z0, m0) → zRe X g y1 (some (.int y0)) := by
    intro y0 y1 e; cases e; exact ⟨hxf, hxr, hxn⟩
  subst hxl
  show zG X cX1_clears 2 "QuiverKin$State" "clears" 1 20 0 [(0, va_rf a0), (1, .int a1)] [] g m
  unfold f_X1_clears at h
  refine g_aload_n dX1_clears_0 0 rfl ?_
  refine gf_r zfd_1_0 q176  (fun _ h9 => h9) dX1_clears_1 h (fun r1 h => ?_)
  refine g_iload_n dX1_clears_4 1 rfl ?_
  refine g_iconst (v := (0 : Int32)) dX1_clears_5 (by decide) ?_
  refine g_iast dX1_clears_6 h (fun m2 h => ?_)
  refine g_iconst (v := (0 : Int32)) dX1_clears_7 (by decide) ?_
  refine g_iret dX1_clears_8 hxt ?_
  have e := Option.some.inj h
  exact Kret _ _ e
/-! QuiverKin.guess -/
def f_X0_guess (g : zGd) (m : zMm) (a0 : Option Nat) (a1 : Int32) (a2 : Int32) (a3 : Int32) : Option (Int32 × zMm) :=
if a1 = (-1 : Int32) then ((zgr g m 0 0 a0).bind fun r12 =>
(zrc g 1 r12 (f_X1_clears g m r12 (4 : Int32))).bind fun (v13, m14) =>
some ((v13, m14)))
else ((f_X0_isRow a1).bind fun v1 =>
if v1 = 0 then (some (((-2 : Int32), m)))
else ((f_X0_in a2 (0 : Int32) (3 : Int32)).bind fun v2 =>
if v2 = 0 then (some (((-2 : Int32), m)))
else ((f_X0_in a3 (0 : Int32) ((3 : Int32) - a2)).bind fun v3 =>
if v3 = 0 then (some (((-2 : Int32), m)))
else ((zgr g m 0 0 a0).bind fun r4 =>
(zgr g m 1 0 r4).bind fun r5 =>
(zald 101 g m r5 (4 : Int32)).bind fun v6 =>
if v6 = (6 : Int32) then (some (((-2 : Int32), m)))
else ((zgr g m 0 0 a0).bind fun r7 =>
(zgr g m 0 0 a0).bind fun r8 =>
(zgr g m 1 7 r8).bind fun r9 =>
(zrc g 1 r7 (f_X1_adds g m r7 r9 (4 : Int32) a1 (((10 : Int32) * a2) + a3))).bind fun (v10, m11) =>
some ((v10, m11)))))))
theorem hy_X0_guess : zHy yX0_guess 3 := ⟨by decide, by decide, by decide +kernel⟩
set_option maxHeartbeats 4000000 in
theorem ok_X0_guess (l : Launch) (g : zGd) (m : zMm) (a0 : Option Nat) (a1 : Int32) (a2 : Int32) (a3 : Int32) (z0 : Int32) (m0 : zMm) (h : f_X0_guess g m a0 a1 a2 a3 = some (z0, m0)) : zCT l yX0_guess cX0_guess 4 (some .int) 3 62 g m [va_rf a0, .int a1, .int a2, .int a3] (some (.int z0)) g m0 := by
  refine zCT.of (own := "QuiverKin") (mn := "guess") (by decide +kernel) rfl rfl (zla_r (zla_i (zla_i (zla_i zla_0)))) (zls_r (zls_i (zls_i (zls_i zls_0)))) (by decide) (fun X hxl hxg hxf hxt hxr hxn => ?_)
  have Kret : ∀ (y0 : Int32) (y1 : zMm), (y0, y1) = (z0, m0) → zRe X g y1 (some (.int y0)) := by
    intro y0 y1 e; cases e; exact ⟨hxf, hxr, hxn⟩
  subst hxl
  show zG X cX0_guess 4 "QuiverKin" "guess" 3 62 0 [(0, va_rf a0), (1, .int a1), (2, .int a2), (3, .int a3)] [] g m
  unfold f_X0_guess at h
  refine g_iload_n dX0_guess_0 1 rfl ?_
  refine g_iconst (v := (-1 : Int32)) dX0_guess_1 (by decide) ?_
  refine g_icmp_ne 14 dX0_guess_2 (by decide) (fun c => ?_) (fun c => ?_)
  · have h := zite_n h c
    refine g_iload_n dX0_guess_14 1 rfl ?_
    refine g_cSRv (rv := fun x : Int32 => Value.int x) [.int a1] (fun x0 e0 => ok_X0_isRow (xl X) g m a1 x0 e0) (lw_S q1241 q1242 q123 q1243) hy_X0_isRow rfl ⟨by decide, by decide⟩ rfl zc_0 (by decide) dX0_guess_15 h (fun v1 h => ?_)
    refine g_if_eq 55 dX0_guess_18 (by decide) (fun c => ?_) (fun c => ?_)
    · have h := zite_p h c
      refine g_bipush (v := (-2 : Int32)) dX0_guess_55 (by decide) ?_
      refine g_iret dX0_guess_57 hxt ?_
      have e := Option.some.inj h
      exact Kret _ _ e
    · have h := zite_n h c
      refine g_iload_n dX0_guess_21 2 rfl ?_
      refine g_iconst (v := (0 : Int32)) dX0_guess_22 (by decide) ?_
      refine g_iconst (v := (3 : Int32)) dX0_guess_23 (by decide) ?_
      refine g_cSRv (rv := fun x : Int32 => Value.int x) [.int a2, .int (0 : Int32), .int (3 : Int32)] (fun x0 e0 => ok_X0_in (xl X) g m a2 (0 : Int32) (3 : Int32) x0 e0) (lw_S q312 q313 q123 q314) hy_X0_in rfl ⟨by decide, by decide⟩ rfl zc_0 (by decide) dX0_guess_24 h (fun v2 h => ?_)
      refine g_if_eq 55 dX0_guess_27 (by decide) (fun c => ?_) (fun c => ?_)
      · have h := zite_p h c
        refine g_bipush (v := (-2 : Int32)) dX0_guess_55 (by decide) ?_
        refine g_iret dX0_guess_57 hxt ?_
        have e := Option.some.inj h
        exact Kret _ _ e
      · have h := zite_n h c
        refine g_iload_n dX0_guess_30 3 rfl ?_
        refine g_iconst (v := (0 : Int32)) dX0_guess_31 (by decide) ?_
        refine g_iconst (v := (3 : Int32)) dX0_guess_32 (by decide) ?_
        refine g_iload_n dX0_guess_33 2 rfl ?_
        refine g_isub dX0_guess_34 ?_
        refine g_cSRv (rv := fun x : Int32 => Value.int x) [.int a3, .int (0 : Int32), .int ((3 : Int32) - a2)] (fun x0 e0 => ok_X0_in (xl X) g m a3 (0 : Int32) ((3 : Int32) - a2) x0 e0) (lw_S q312 q313 q123 q314) hy_X0_in rfl ⟨by decide, by decide⟩ rfl zc_0 (by decide) dX0_guess_35 h (fun v3 h => ?_)
        refine g_if_eq 55 dX0_guess_38 (by decide) (fun c => ?_) (fun c => ?_)
        · have h := zite_p h c
          refine g_bipush (v := (-2 : Int32)) dX0_guess_55 (by decide) ?_
          refine g_iret dX0_guess_57 hxt ?_
          have e := Option.some.inj h
          exact Kret _ _ e
        · have h := zite_n h c
          refine g_aload_n dX0_guess_41 0 rfl ?_
          refine gf_r zfd_0_0 q239  (fun _ h9 => h9) dX0_guess_42 h (fun r4 h => ?_)
          refine gf_rN zfd_1_0 q177  (fun _ h9 => h9) dX0_guess_45 h (fun r5 h => ?_)
          refine g_iconst (v := (4 : Int32)) dX0_guess_48 (by decide) ?_
          refine g_iald dX0_guess_49 h (fun v6 h => ?_)
          refine g_bipush (v := (6 : Int32)) dX0_guess_50 (by decide) ?_
          refine g_icmp_ne 58 dX0_guess_52 (by decide) (fun c => ?_) (fun c => ?_)
          · have h := zite_n h c
            refine g_aload_n dX0_guess_58 0 rfl ?_
            refine gf_r zfd_0_0 q239  (fun _ h9 => h9) dX0_guess_59 h (fun r7 h => ?_)
            refine g_aload_n dX0_guess_62 0 rfl ?_
            refine gf_r zfd_0_0 q239  (fun _ h9 => h9) dX0_guess_63 h (fun r8 h => ?_)
            refine gf_rN zfd_1_7 q191  (fun _ h9 => h9) dX0_guess_66 h (fun r9 h => ?_)
            refine g_iconst (v := (4 : Int32)) dX0_guess_69 (by decide) ?_
            refine g_iload_n dX0_guess_70 1 rfl ?_
            refine g_bipush (v := (10 : Int32)) dX0_guess_71 (by decide) ?_
            refine g_iload_n dX0_guess_73 2 rfl ?_
            refine g_imul dX0_guess_74 ?_
            refine g_iload_n dX0_guess_75 3 rfl ?_
            refine g_iadd dX0_guess_76 ?_
            refine g_cVMv (rv := fun x : Int32 => Value.int x) [va_rf r9, .int (4 : Int32), .int a1, .int (((10 : Int32) * a2) + a3)] (fun x0 m0 e0 => ok_X1_adds (xl X) g m r7 r9 (4 : Int32) a1 (((10 : Int32) * a2) + a3) x0 m0 e0) zc1 (by decide) (lw_V q1244 q1245 q1246 q124 q1247) rfl hy_X1_adds rfl ⟨by decide, by decide⟩ rfl zc_0 (by decide) dX0_guess_77 h (fun v10 m11 h => ?_)
            refine g_iret dX0_guess_80 hxt ?_
            have e := Option.some.inj h
            exact Kret _ _ e
          · have h := zite_p h c
            refine g_bipush (v := (-2 : Int32)) dX0_guess_55 (by decide) ?_
            refine g_iret dX0_guess_57 hxt ?_
            have e := Option.some.inj h
            exact Kret _ _ e
  · have h := zite_p h c
    refine g_aload_n dX0_guess_5 0 rfl ?_
    refine gf_r zfd_0_0 q239  (fun _ h9 => h9) dX0_guess_6 h (fun r12 h => ?_)
    refine g_iconst (v := (4 : Int32)) dX0_guess_9 (by decide) ?_
    refine g_cVMv (rv := fun x : Int32 => Value.int x) [.int (4 : Int32)] (fun x0 m0 e0 => ok_X1_clears (xl X) g m r12 (4 : Int32) x0 m0 e0) zc1 (by decide) (lw_V q1237 q1238 q1239 q124 q1240) rfl hy_X1_clears rfl ⟨by decide, by decide⟩ rfl zc_0 (by decide) dX0_guess_10 h (fun v13 m14 h => ?_)
    refine g_iret dX0_guess_13 hxt ?_
    have e := Option.some.inj h
    exact Kret _ _ e
/-! QuiverKin.letterOf -/
def f_X0_letterOf (a0 : Int32) (a1 : Int32) : Option (Int32) :=
if a1 = 0 then (some ((a0 / (25 : Int32))))
else (if a1 = (1 : Int32) then (some ((zrem (a0 / (5 : Int32)) (5 : Int32))))
else (some ((zrem a0 (5 : Int32)))))
theorem hy_X0_letterOf : zHy yX0_letterOf 2 := ⟨by decide, by decide, by decide +kernel⟩
set_option maxHeartbeats 4000000 in
theorem ok_X0_letterOf (l : Launch) (g : zGd) (m : zMm) (a0 : Int32) (a1 : Int32) (z0 : Int32) (h : f_X0_letterOf a0 a1 = some z0) : zCT l yX0_letterOf cX0_letterOf 2 (some .int) 1 20 g m [.int a0, .int a1] (some (.int z0)) g m := by
  refine zCT.of (own := "QuiverKin") (mn := "letterOf") (by decide +kernel) rfl rfl (zla_i (zla_i zla_0)) (zls_i (zls_i zls_0)) (by decide) (fun X hxl hxg hxf hxt hxr hxn => ?_)
  have Kret : ∀ (y0 : Int32), y0 = z0 → zRe X g m (some (.int y0)) := by
    intro y0 e; cases e; exact ⟨hxf, hxr, hxn⟩
  subst hxl
  show zG X cX0_letterOf 2 "QuiverKin" "letterOf" 1 20 0 [(0, .int a0), (1, .int a1)] [] g m
  unfold f_X0_letterOf at h
  refine g_iload_n dX0_letterOf_0 1 rfl ?_
  refine g_if_ne 11 dX0_letterOf_1 (by decide) (fun c => ?_) (fun c => ?_)
  · have h := zite_n h c
    refine g_iload_n dX0_letterOf_11 1 rfl ?_
    refine g_iconst (v := (1 : Int32)) dX0_letterOf_12 (by decide) ?_
    refine g_icmp_ne 24 dX0_letterOf_13 (by decide) (fun c => ?_) (fun c => ?_)
    · have h := zite_n h c
      refine g_iload_n dX0_letterOf_24 0 rfl ?_
      refine g_iconst (v := (5 : Int32)) dX0_letterOf_25 (by decide) ?_
      refine g_iremC dX0_letterOf_26 (by decide) ?_
      refine g_iret dX0_letterOf_27 hxt ?_
      have e := Option.some.inj h
      exact Kret _ e
    · have h := zite_p h c
      refine g_iload_n dX0_letterOf_16 0 rfl ?_
      refine g_iconst (v := (5 : Int32)) dX0_letterOf_17 (by decide) ?_
      refine g_idivC dX0_letterOf_18 (by decide) ?_
      refine g_iconst (v := (5 : Int32)) dX0_letterOf_19 (by decide) ?_
      refine g_iremC dX0_letterOf_20 (by decide) ?_
      refine g_goto 27 dX0_letterOf_21 (by decide) ?_
      refine g_iret dX0_letterOf_27 hxt ?_
      have e := Option.some.inj h
      exact Kret _ e
  · have h := zite_p h c
    refine g_iload_n dX0_letterOf_4 0 rfl ?_
    refine g_bipush (v := (25 : Int32)) dX0_letterOf_5 (by decide) ?_
    refine g_idivC dX0_letterOf_7 (by decide) ?_
    refine g_goto 27 dX0_letterOf_8 (by decide) ?_
    refine g_iret dX0_letterOf_27 hxt ?_
    have e := Option.some.inj h
    exact Kret _ e
/-! QuiverKin.howOften -/
def b_X0_howOften_4 (a0 : Int32) (a1 : Int32) : Int32 × Int32 → Option ((Int32) ⊕ (Int32 × Int32)) := fun (v4, v5) =>
if (3 : Int32) ≤ v5 then (some (.inl v4))
else ((f_X0_letterOf a0 v5).bind fun v6 =>
if v6 = a1 then (zlt (v4 + (1 : Int32)) fun v9 =>
zlt (v5 + (1 : Int32)) fun v10 =>
some (.inr (v9, v10)))
else (zlt (v4 + (0 : Int32)) fun v7 =>
zlt (v5 + (1 : Int32)) fun v8 =>
some (.inr (v7, v8))))
def f_X0_howOften (a0 : Int32) (a1 : Int32) : Option (Int32) :=
(zLoop (b_X0_howOften_4 a0 a1) zFuel ((0 : Int32), (0 : Int32))).bind fun v2 =>
some (v2)
theorem hy_X0_howOften : zHy yX0_howOften 2 := ⟨by decide, by decide, by decide +kernel⟩
set_option maxHeartbeats 4000000 in
theorem ok_X0_howOften (l : Launch) (g : zGd) (m : zMm) (a0 : Int32) (a1 : Int32) (z0 : Int32) (h : f_X0_howOften a0 a1 = some z0) : zCT l yX0_howOften cX0_howOften 4 (some .int) 2 41 g m [.int a0, .int a1] (some (.int z0)) g m := by
  refine zCT.of (own := "QuiverKin") (mn := "howOften") (by decide +kernel) rfl rfl (zla_i (zla_i zla_0)) (zls_i (zls_i zls_0)) (by decide) (fun X hxl hxg hxf hxt hxr hxn => ?_)
  have Kret : ∀ (y0 : Int32), y0 = z0 → zRe X g m (some (.int y0)) := by
    intro y0 e; cases e; exact ⟨hxf, hxr, hxn⟩
  subst hxl
  show zG X cX0_howOften 4 "QuiverKin" "howOften" 2 41 0 [(0, .int a0), (1, .int a1)] [] g m
  unfold f_X0_howOften at h
  refine g_iconst (v := (0 : Int32)) dX0_howOften_0 (by decide) ?_
  refine g_istore_n [(2, .int (0 : Int32)), (0, .int a0), (1, .int a1)] dX0_howOften_1 (by decide) (zf_i (zf_i zf_0)) rfl ?_
  refine g_iconst (v := (0 : Int32)) dX0_howOften_2 (by decide) ?_
  refine g_istore_n [(3, .int (0 : Int32)), (2, .int (0 : Int32)), (0, .int a0), (1, .int a1)] dX0_howOften_3 (by decide) (zf_i (zf_i (zf_i zf_0))) rfl ?_
  obtain ⟨o1, h1, h2⟩ := zB_e h
  have K1 : ∀ (v2 : Int32), o1 = v2 → zG X cX0_howOften 4 "QuiverKin" "howOften" 2 41 32 [(2, .int v2)] [] g m := by
    intro v2 e
    rw [e] at h2
    have h := h2
    refine g_iload_n dX0_howOften_32 0 rfl ?_
    refine g_iret dX0_howOften_33 hxt ?_
    have e := Option.some.inj h
    exact Kret _ e
  refine zG.sub [2, 3, 1, 0] rfl ?_
  refine zLoop_ok (Φ := (fun (q : Int32 × Int32) => match q with | (v4, v5) => zG X cX0_howOften 4 "QuiverKin" "howOften" 2 41 4 [(0, .int a0), (1, .int a1), (2, .int v4), (3, .int v5)] [] g m)) o1 ?_ zFuel _ h1
  rintro ⟨v4, v5⟩ x3 h hl3 hr3
  unfold b_X0_howOften_4 at h
  have K3 : ∀ (v4 : Int32) (v5 : Int32), x3 = .inr (v4, v5) → zG X cX0_howOften 4 "QuiverKin" "howOften" 2 41 4 [(0, .int a0), (1, .int a1), (2, .int v4), (3, .int v5)] [] g m := by
    intro v4 v5 e
    exact hr3 _ e
  show zG X cX0_howOften 4 "QuiverKin" "howOften" 2 41 4 [(0, .int a0), (1, .int a1), (2, .int v4), (3, .int v5)] [] g m
  refine g_iload_n dX0_howOften_4 3 rfl ?_
  refine g_iconst (v := (3 : Int32)) dX0_howOften_5 (by decide) ?_
  refine g_icmp_ge 32 dX0_howOften_6 (by decide) (fun c => ?_) (fun c => ?_)
  · have h := zite_p h c
    refine zG.sub [2] rfl ?_
    have e := Option.some.inj h
    have e := hl3 _ e.symm
    exact K1 _ e.symm
  · have h := zite_n h c
    refine g_iload_n dX0_howOften_9 2 rfl ?_
    refine g_iload_n dX0_howOften_10 0 rfl ?_
    refine g_iload_n dX0_howOften_11 3 rfl ?_
    refine g_cSRv (rv := fun x : Int32 => Value.int x) [.int a0, .int v5] (fun x0 e0 => ok_X0_letterOf (xl X) g m a0 v5 x0 e0) (lw_S q1255 q1256 q123 q1257) hy_X0_letterOf rfl ⟨by decide, by decide⟩ rfl (zc_i zc_0) (by decide) dX0_howOften_12 h (fun v6 h => ?_)
    refine g_iload_n dX0_howOften_15 1 rfl ?_
    refine g_icmp_ne 23 dX0_howOften_16 (by decide) (fun c => ?_) (fun c => ?_)
    · have h := zite_n h c
      refine g_iconst (v := (0 : Int32)) dX0_howOften_23 (by decide) ?_
      refine g_iadd dX0_howOften_24 ?_
      refine g_leti h (fun v7 h => ?_)
      refine g_istore_n [(2, .int v7), (0, .int a0), (1, .int a1), (3, .int v5)] dX0_howOften_25 (by decide) (zf_i (zf_i (zf_i (zf_i zf_0)))) rfl ?_
      refine g_iinc (v := (1 : Int32)) [(2, .int v7), (0, .int a0), (1, .int a1)] dX0_howOften_26 3 rfl (by decide) (by decide) (zf_i (zf_i (zf_i (zf_i zf_0)))) rfl h (fun v8 h => ?_)
      refine g_goto 4 dX0_howOften_29 (by decide) ?_
      refine zG.sub [2, 3, 1, 0] rfl ?_
      have e := Option.some.inj h
      exact K3 _ _ e.symm
    · have h := zite_p h c
      refine g_iconst (v := (1 : Int32)) dX0_howOften_19 (by decide) ?_
      refine g_goto 24 dX0_howOften_20 (by decide) ?_
      refine g_iadd dX0_howOften_24 ?_
      refine g_leti h (fun v9 h => ?_)
      refine g_istore_n [(2, .int v9), (0, .int a0), (1, .int a1), (3, .int v5)] dX0_howOften_25 (by decide) (zf_i (zf_i (zf_i (zf_i zf_0)))) rfl ?_
      refine g_iinc (v := (1 : Int32)) [(2, .int v9), (0, .int a0), (1, .int a1)] dX0_howOften_26 3 rfl (by decide) (by decide) (zf_i (zf_i (zf_i (zf_i zf_0)))) rfl h (fun v10 h => ?_)
      refine g_goto 4 dX0_howOften_29 (by decide) ?_
      refine zG.sub [2, 3, 1, 0] rfl ?_
      have e := Option.some.inj h
      exact K3 _ _ e.symm
