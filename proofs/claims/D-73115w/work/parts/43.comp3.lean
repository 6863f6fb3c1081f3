/-! methods (printed by gen/run2.py) -/
set_option maxRecDepth 100000
/-! QuiverKin$Chain.<init> -/
def f_X6_init (g : zGd) (m : zMm) (a0 : Option Nat) (a1 : Option Nat) : Option (zGd × zMm) :=
zob a0 (zlt (znewo g m 17) fun (g1, m2) =>
zlt (some (zZ g)) fun r3 =>
zob r3 ((f_J2_init g1 m2 r3).bind fun m4 =>
(zpr g1 m4 6 1 a0 r3).bind fun m5 =>
zlt (znewo g1 m5 17) fun (g6, m7) =>
zlt (some (zZ g1)) fun r8 =>
zob r8 ((f_J2_init g6 m7 r8).bind fun m9 =>
(zpr g6 m9 6 2 a0 r8).bind fun m10 =>
(zpr g6 m10 6 0 a0 a1).bind fun m11 =>
some ((g6, m11)))))
theorem hy_X6_init : zHy yX6_init 1 := ⟨by decide, by decide, by decide +kernel⟩
set_option maxHeartbeats 4000000 in
theorem ok_X6_init (l : Launch) (g : zGd) (m : zMm) (a0 : Option Nat) (a1 : Option Nat) (g0 : zGd) (m0 : zMm) (h : f_X6_init g m a0 a1 = some (g0, m0)) : zCT l yX6_init cX6_init 2 none 4 80 g m [va_rf a0, va_rf a1] none g0 m0 := by
  refine zCT.of (own := "QuiverKin$Chain") (mn := "<init>") (by decide +kernel) rfl rfl (zla_r (zla_r zla_0)) (zls_r (zls_r zls_0)) (by decide) (fun X hxl hxg hxf hxt hxr hxn => ?_)
  have Kret : ∀ (y0 : zGd) (y1 : zMm), (y0, y1) = (g0, m0) → zRe X y0 y1 none := by
    intro y0 y1 e; cases e; exact ⟨hxf, hxr, hxn⟩
  subst hxl
  show zG X cX6_init 2 "QuiverKin$Chain" "<init>" 4 80 0 [(0, va_rf a0), (1, va_rf a1)] [] g m
  unfold f_X6_init at h
  refine g_aload_n dX6_init_0 0 rfl ?_
  obtain ⟨hs, h⟩ := zob_e h
  refine g_oinit q800 q164 q165 hs zc_0 (by decide) (by decide) dX6_init_1 ?_
  refine g_aload_n dX6_init_4 0 rfl ?_
  refine gn_new znd_17 q801 dX6_init_5 h (fun g1 m2 h => ?_)
  refine g_letr h (fun r3 h => ?_)
  refine g_dup dX6_init_8 (zcat_r _) ?_
  obtain ⟨hs, h⟩ := zob_e h
  refine g_cIMn [] (fun m0 e0 => ok_J2_init (xl X) g1 m2 r3 m0 e0) (lw_meth q383) q131 q802 q382 rfl hy_J2_init rfl ⟨by decide, by decide⟩ rfl (zc_r (zc_r zc_0)) (by decide) hs dX6_init_9 h (fun m4 h => ?_)
  refine gp_rF zpd_6_1 q804 (fun _ h9 => h9) rfl rfl dX6_init_12 h (fun m5 h => ?_)
  refine g_aload_n dX6_init_15 0 rfl ?_
  refine gn_new znd_17 q801 dX6_init_16 h (fun g6 m7 h => ?_)
  refine g_letr h (fun r8 h => ?_)
  refine g_dup dX6_init_19 (zcat_r _) ?_
  obtain ⟨hs, h⟩ := zob_e h
  refine g_cIMn [] (fun m0 e0 => ok_J2_init (xl X) g6 m7 r8 m0 e0) (lw_meth q383) q131 q802 q382 rfl hy_J2_init rfl ⟨by decide, by decide⟩ rfl (zc_r (zc_r zc_0)) (by decide) hs dX6_init_20 h (fun m9 h => ?_)
  refine gp_rF zpd_6_2 q805 (fun _ h9 => h9) rfl rfl dX6_init_23 h (fun m10 h => ?_)
  refine g_aload_n dX6_init_26 0 rfl ?_
  refine g_aload_n dX6_init_27 1 rfl ?_
  refine gp_rF zpd_6_0 q803 (fun _ h9 => h9) rfl rfl dX6_init_28 h (fun m11 h => ?_)
  refine g_vret dX6_init_31 hxt ?_
  have e := Option.some.inj h
  exact Kret _ _ e
/-! QuiverKin$Chain.add -/
def f_X6_add (g : zGd) (m : zMm) (a0 : Option Nat) (a1 : Int32) (a2 : Option Nat) : Option (zGd × zMm) :=
(zgr g m 6 2 a0).bind fun r1 =>
(f_J15_valueOf g m a1).bind fun (r2, g3, m4) =>
(zrc g3 17 r1 (f_J2_add g3 m4 r1 r2)).bind fun (v5, g6, m7) =>
(zgr g6 m7 6 1 a0).bind fun r8 =>
(zrc g6 17 r8 (f_J2_add g6 m7 r8 a2)).bind fun (v9, g10, m11) =>
some ((g10, m11))
theorem hy_X6_add : zHy yX6_add 2 := ⟨by decide, by decide, by decide +kernel⟩
set_option maxHeartbeats 4000000 in
theorem ok_X6_add (l : Launch) (g : zGd) (m : zMm) (a0 : Option Nat) (a1 : Int32) (a2 : Option Nat) (g0 : zGd) (m0 : zMm) (h : f_X6_add g m a0 a1 a2 = some (g0, m0)) : zCT l yX6_add cX6_add 3 none 8 172 g m [va_rf a0, .int a1, va_rf a2] none g0 m0 := by
  refine zCT.of (own := "QuiverKin$Chain") (mn := "add") (by decide +kernel) rfl rfl (zla_r (zla_i (zla_r zla_0))) (zls_r (zls_i (zls_r zls_0))) (by decide) (fun X hxl hxg hxf hxt hxr hxn => ?_)
  have Kret : ∀ (y0 : zGd) (y1 : zMm), (y0, y1) = (g0, m0) → zRe X y0 y1 none := by
    intro y0 y1 e; cases e; exact ⟨hxf, hxr, hxn⟩
  subst hxl
  show zG X cX6_add 3 "QuiverKin$Chain" "add" 8 172 0 [(0, va_rf a0), (1, .int a1), (2, va_rf a2)] [] g m
  unfold f_X6_add at h
  refine g_aload_n dX6_add_0 0 rfl ?_
  refine gf_r zfd_6_2 q805  (fun _ h9 => h9) dX6_add_1 h (fun r1 h => ?_)
  refine g_iload_n dX6_add_4 1 rfl ?_
  refine g_cSAv (rv := fun x : Option Nat => va_rf x) [.int a1] (fun x0 g0 m0 e0 => ok_J15_valueOf (xl X) g m a1 x0 g0 m0 e0) (lw_S q817 q818 q155 q819) hy_J15_valueOf rfl ⟨by decide, by decide⟩ rfl (zc_r zc_0) (by decide) dX6_add_5 h (fun r2 g3 m4 h => ?_)
  refine g_cVAv (rv := fun x : Int32 => Value.int x) [va_rf r2] (fun x0 g0 m0 e0 => ok_J2_add (xl X) g3 m4 r1 r2 x0 g0 m0 e0) zc17 (by decide) (lw_V q837 q636 q637 q131 q638) rfl hy_J2_add rfl ⟨by decide, by decide⟩ rfl zc_0 (by decide) dX6_add_8 h (fun v5 g6 m7 h => ?_)
  refine g_pop dX6_add_11 rfl ?_
  refine g_aload_n dX6_add_12 0 rfl ?_
  refine gf_r zfd_6_1 q804  (fun _ h9 => h9) dX6_add_13 h (fun r8 h => ?_)
  refine g_aload_n dX6_add_16 2 rfl ?_
  refine g_cVAv (rv := fun x : Int32 => Value.int x) [va_rf a2] (fun x0 g0 m0 e0 => ok_J2_add (xl X) g6 m7 r8 a2 x0 g0 m0 e0) zc17 (by decide) (lw_V q837 q636 q637 q131 q638) rfl hy_J2_add rfl ⟨by decide, by decide⟩ rfl zc_0 (by decide) dX6_add_17 h (fun v9 g10 m11 h => ?_)
  refine g_pop dX6_add_20 rfl ?_
  refine g_vret dX6_add_21 hxt ?_
  have e := Option.some.inj h
  exact Kret _ _ e
/-! QuiverKin$Chain.itself -/
def f_X6_itself (g : zGd) (m : zMm) (a0 : Option Nat) : Option (Option Nat) :=
(zgr g m 6 1 a0).bind fun r1 =>
(zrc g 17 r1 (f_J2_isEmpty g m r1)).bind fun v2 =>
if v2 = 0 then (some (a0))
else ((zgr g m 6 0 a0).bind fun r3 =>
some (r3))
theorem hy_X6_itself : zHy yX6_itself 0 := ⟨by decide, by decide, by decide +kernel⟩
set_option maxHeartbeats 4000000 in
theorem ok_X6_itself (l : Launch) (g : zGd) (m : zMm) (a0 : Option Nat) (z0 : Option Nat) (h : f_X6_itself g m a0 = some z0) : zCT l yX6_itself cX6_itself 1 (some (.object "QuiverKin$Sum")) 2 40 g m [va_rf a0] (some (va_rf z0)) g m := by
  refine zCT.of (own := "QuiverKin$Chain") (mn := "itself") (by decide +kernel) rfl rfl (zla_r zla_0) (zls_r zls_0) (by decide) (fun X hxl hxg hxf hxt hxr hxn => ?_)
  have Kret : ∀ (y0 : Option Nat), y0 = z0 → zRe X g m (some (va_rf y0)) := by
    intro y0 e; cases e; exact ⟨hxf, hxr, hxn⟩
  subst hxl
  show zG X cX6_itself 1 "QuiverKin$Chain" "itself" 2 40 0 [(0, va_rf a0)] [] g m
  unfold f_X6_itself at h
  refine g_aload_n dX6_itself_0 0 rfl ?_
  refine gf_r zfd_6_1 q804  (fun _ h9 => h9) dX6_itself_1 h (fun r1 h => ?_)
  refine g_cVRv (rv := fun x : Int32 => Value.int x) [] (fun x0 e0 => ok_J2_isEmpty (xl X) g m r1 x0 e0) zc17 (by decide) (lw_V q842 q843 q844 q131 q845) rfl hy_J2_isEmpty rfl ⟨by decide, by decide⟩ rfl zc_0 (by decide) dX6_itself_4 h (fun v2 h => ?_)
  refine g_if_eq 17 dX6_itself_7 (by decide) (fun c => ?_) (fun c => ?_)
  · have h := zite_p h c
    refine g_aload_n dX6_itself_17 0 rfl ?_
    refine g_aret dX6_itself_18 hxt (by first | exact Or.inl ⟨_, rfl⟩ | exact Or.inr ⟨_, rfl⟩) ?_
    have e := Option.some.inj h
    exact Kret _ e
  · have h := zite_n h c
    refine g_aload_n dX6_itself_10 0 rfl ?_
    refine gf_r zfd_6_0 q803  (fun _ h9 => h9) dX6_itself_11 h (fun r3 h => ?_)
    refine g_goto 18 dX6_itself_14 (by decide) ?_
    refine g_aret dX6_itself_18 hxt (by first | exact Or.inl ⟨_, rfl⟩ | exact Or.inr ⟨_, rfl⟩) ?_
    have e := Option.some.inj h
    exact Kret _ e
/-! SCC.tok -/
theorem hy_X3_ask : zHy yX3_ask 0 := ⟨by decide, by decide, by decide +kernel⟩
theorem hy_X3_both : zHy yX3_both 0 := ⟨by decide, by decide, by decide +kernel⟩
theorem hy_X3_either : zHy yX3_either 0 := ⟨by decide, by decide, by decide +kernel⟩
theorem hy_X3_choice : zHy yX3_choice 0 := ⟨by decide, by decide, by decide +kernel⟩
theorem hy_X3_one : zHy yX3_one 0 := ⟨by decide, by decide, by decide +kernel⟩
theorem hy_X3_product : zHy yX3_product 0 := ⟨by decide, by decide, by decide +kernel⟩
theorem hy_X3_sum : zHy yX3_sum 0 := ⟨by decide, by decide, by decide +kernel⟩
def q_X3_ask (rec : (zGd → zMm → Option Nat → Option (((Option Nat) × zGd × zMm) ⊕ (Nat × zGd × zMm))) × (zGd → zMm → Option Nat → Option (((Option Nat) × zGd × zMm) ⊕ (Nat × zGd × zMm))) × (zGd → zMm → Option Nat → Option (((Option Nat) × zGd × zMm) ⊕ (Nat × zGd × zMm))) × (zGd → zMm → Option Nat → Option (((Option Nat) × zGd × zMm) ⊕ (Nat × zGd × zMm))) × (zGd → zMm → Option Nat → Option (((Option Nat) × zGd × zMm) ⊕ (Nat × zGd × zMm))) × (zGd → zMm → Option Nat → Option (((Option Nat) × zGd × zMm) ⊕ (Nat × zGd × zMm))) × (zGd → zMm → Option Nat → Option (((Option Nat) × zGd × zMm) ⊕ (Nat × zGd × zMm)))) (g : zGd) (m : zMm) (a0 : Option Nat) : Option (((Option Nat) × zGd × zMm) ⊕ (Nat × zGd × zMm)) :=
(zgi g m 3 4 a0).bind fun v1 =>
if v1 = (219 : Int32) then (zXd g 3 a0 (f_X3_opens g m a0) (fun (q28, g29, m30) => some (.inr (q28, g29, m30))) fun (_, g26, m27) =>
zlt (znewo g26 m27 8) fun (g31, m32) =>
zlt (some (zZ g26)) fun r33 =>
zXd g31 3 a0 (rec.1 g31 m32 a0) (fun (q37, g38, m39) => some (.inr (q37, g38, m39))) fun (r34, g35, m36) =>
zob r33 ((f_X8_init g35 m36 r33 r34).bind fun m40 =>
(zgi g35 m40 3 6 a0).bind fun v41 =>
(zpi g35 m40 3 6 a0 (v41 - (1 : Int32))).bind fun m42 =>
some (.inl (r33, g35, m42))))
else (zXd g 3 a0 (rec.2.2.2.2.2.2 g m a0) (fun (q5, g6, m7) => some (.inr (q5, g6, m7))) fun (r2, g3, m4) =>
(zgi g3 m4 3 4 a0).bind fun v8 =>
zEx (σ := Unit) (if v8 = (60 : Int32) then (some (.inr ()))
else (if v8 = (62 : Int32) then (some (.inr ()))
else (if v8 = (61 : Int32) then (some (.inr ()))
else (if v8 = (35 : Int32) then (some (.inr ()))
else (if v8 = (303 : Int32) then (some (.inr ()))
else (if v8 = (304 : Int32) then (some (.inr ()))
else ((zrc g3 3 a0 (f_X3_wrong g3 m4 a0 (1 : Int32))).bind fun (r10, g11, m12) =>
(zthr g11 r10).bind fun q13 =>
some (.inl (.inr (q13, g11, m12)))))))))) fun _ =>
(zrc g3 3 a0 (f_X3_next g3 m4 a0)).bind fun (g14, m15) =>
zlt (znewo g14 m15 9) fun (g16, m17) =>
zlt (some (zZ g14)) fun r18 =>
zXd g16 3 a0 (rec.2.2.2.2.2.2 g16 m17 a0) (fun (q22, g23, m24) => some (.inr (q22, g23, m24))) fun (r19, g20, m21) =>
zob r18 ((f_X9_init g20 m21 r18 v8 r2 r19).bind fun m25 =>
some (.inl (r18, g20, m25))))
set_option maxHeartbeats 4000000 in
theorem qk_X3_ask (l : Launch) (g : zGd) (m : zMm) (fR lR : Nat) (rec : (zGd → zMm → Option Nat → Option (((Option Nat) × zGd × zMm) ⊕ (Nat × zGd × zMm))) × (zGd → zMm → Option Nat → Option (((Option Nat) × zGd × zMm) ⊕ (Nat × zGd × zMm))) × (zGd → zMm → Option Nat → Option (((Option Nat) × zGd × zMm) ⊕ (Nat × zGd × zMm))) × (zGd → zMm → Option Nat → Option (((Option Nat) × zGd × zMm) ⊕ (Nat × zGd × zMm))) × (zGd → zMm → Option Nat → Option (((Option Nat) × zGd × zMm) ⊕ (Nat × zGd × zMm))) × (zGd → zMm → Option Nat → Option (((Option Nat) × zGd × zMm) ⊕ (Nat × zGd × zMm))) × (zGd → zMm → Option Nat → Option (((Option Nat) × zGd × zMm) ⊕ (Nat × zGd × zMm)))) (hrec1 : ∀ (g : zGd) (m : zMm) (a0 : Option Nat) (r0 : ((Option Nat) × zGd × zMm) ⊕ (Nat × zGd × zMm)), rec.1 g m a0 = some r0 → zCTX l yX3_ask cX3_ask 3 (some (.object "QuiverKin$Asked")) fR lR g m [va_rf a0] (fun x : Option Nat => some (va_rf x)) r0) (hrec2 : ∀ (g : zGd) (m : zMm) (a0 : Option Nat) (r0 : ((Option Nat) × zGd × zMm) ⊕ (Nat × zGd × zMm)), rec.2.1 g m a0 = some r0 → zCTX l yX3_both cX3_both 2 (some (.object "QuiverKin$Asked")) fR lR g m [va_rf a0] (fun x : Option Nat => some (va_rf x)) r0) (hrec3 : ∀ (g : zGd) (m : zMm) (a0 : Option Nat) (r0 : ((Option Nat) × zGd × zMm) ⊕ (Nat × zGd × zMm)), rec.2.2.1 g m a0 = some r0 → zCTX l yX3_either cX3_either 2 (some (.object "QuiverKin$Asked")) fR lR g m [va_rf a0] (fun x : Option Nat => some (va_rf x)) r0) (hrec4 : ∀ (g : zGd) (m : zMm) (a0 : Option Nat) (r0 : ((Option Nat) × zGd × zMm) ⊕ (Nat × zGd × zMm)), rec.2.2.2.1 g m a0 = some r0 → zCTX l yX3_choice cX3_choice 4 (some (.object "QuiverKin$Sum")) fR lR g m [va_rf a0] (fun x : Option Nat => some (va_rf x)) r0) (hrec5 : ∀ (g : zGd) (m : zMm) (a0 : Option Nat) (r0 : ((Option Nat) × zGd × zMm) ⊕ (Nat × zGd × zMm)), rec.2.2.2.2.1 g m a0 = some r0 → zCTX l yX3_one cX3_one 5 (some (.object "QuiverKin$Sum")) fR lR g m [va_rf a0] (fun x : Option Nat => some (va_rf x)) r0) (hrec6 : ∀ (g : zGd) (m : zMm) (a0 : Option Nat) (r0 : ((Option Nat) × zGd × zMm) ⊕ (Nat × zGd × zMm)), rec.2.2.2.2.2.1 g m a0 = some r0 → zCTX l yX3_product cX3_product 3 (some (.object "QuiverKin$Sum")) fR lR g m [va_rf a0] (fun x : Option Nat => some (va_rf x)) r0) (hrec7 : ∀ (g : zGd) (m : zMm) (a0 : Option Nat) (r0 : ((Option Nat) × zGd × zMm) ⊕ (Nat × zGd × zMm)), rec.2.2.2.2.2.2 g m a0 = some r0 → zCTX l yX3_sum cX3_sum 3 (some (.object "QuiverKin$Sum")) fR lR g m [va_rf a0] (fun x : Option Nat => some (va_rf x)) r0) (a0 : Option Nat) (r0 : ((Option Nat) × zGd × zMm) ⊕ (Nat × zGd × zMm)) (h : q_X3_ask rec g m a0 = some r0) : zCTX l yX3_ask cX3_ask 3 (some (.object "QuiverKin$Asked")) (9 + fR) (194 + lR) g m [va_rf a0] (fun x : Option Nat => some (va_rf x)) r0 := by
  unfold zCTX
  refine zXT.of (own := "QuiverKin$Tokens") (mn := "ask") (by decide +kernel) rfl rfl (zla_r zla_0) (zls_r zls_0) (by decide) (fun X hxl hxg hxf hxt hxr hxn => ?_)
  have Kret : ∀ (x : Option Nat) (g1 : zGd) (m1 : zMm), .inl (x, g1, m1) = r0 → zRe X g1 m1 (some (va_rf x)) := by
    intro x g1 m1 e; cases e; exact ⟨hxf, hxr, hxn⟩
  have Kthr : ∀ (q : Nat) (g1 : zGd) (m1 : zMm), .inr (q, g1, m1) = r0 → zRt X g1 m1 q := by
    intro q g1 m1 e; cases e; exact ⟨hxf, hxr, hxn⟩
  subst hxl
  show zG X cX3_ask 3 "QuiverKin$Tokens" "ask" (9 + fR) (194 + lR) 0 [(0, va_rf a0)] [] g m
  unfold q_X3_ask at h
  refine g_aload_n dX3_ask_0 0 rfl ?_
  refine gf_i zfd_3_4 q346  (fun _ h9 => h9) dX3_ask_1 h (fun v1 h => ?_)
  refine g_sipush (v := (219 : Int32)) dX3_ask_4 (by decide) ?_
  refine g_icmp_ne 38 dX3_ask_7 (by decide) (fun c => ?_) (fun c => ?_)
  · have h := zite_n h c
    refine g_aload_n dX3_ask_38 0 rfl ?_
    refine g_xVv (rv := fun x : Option Nat => va_rf x) [] (fun r0 e0 => hrec7 g m a0 r0 e0) zc3 (by decide) (lw_V q556 q558 qs6 q127 q559) rfl hy_X3_sum rfl ⟨by omega, by omega⟩ rfl zc_0 (by decide) dX3_ask_39 h (fun r2 g3 m4 h => ?_) (fun q5 g6 m7 hk6 h => ?_)
    rotate_left 1
    · refine g_out ?_ hk6
      have e := Option.some.inj h
      exact Kthr _ _ _ e
    refine g_astore_n [(1, va_rf r2), (0, va_rf a0)] dX3_ask_42 (by decide) (zf_r zf_0) rfl ?_
    refine g_aload_n dX3_ask_43 1 rfl ?_
    refine gf_i zfd_3_4 q346  (fun _ h9 => h9) dX3_ask_44 h (fun v8 h => ?_)
    refine g_istore_n [(2, .int v8), (1, va_rf r2), (0, va_rf a0)] dX3_ask_47 (by decide) (zf_r (zf_r zf_0)) rfl ?_
    refine g_iload_n dX3_ask_48 0 rfl ?_
    refine g_bipush (v := (60 : Int32)) dX3_ask_49 (by decide) ?_
    obtain ⟨o9, h1, hl9, hr9⟩ := zEx_e h
    have K9 : o9 = .inr () → zG X cX3_ask 3 "QuiverKin$Tokens" "ask" (9 + fR) (194 + lR) 92 [(0, va_rf a0), (1, va_rf r2), (2, .int v8)] [] g3 m4 := by
      intro e
      have h := hr9 _ e
      refine g_aload_n dX3_ask_92 0 rfl ?_
      refine g_cVAn [] (fun g0 m0 e0 => ok_X3_next (xl X) g3 m4 a0 g0 m0 e0) zc3 (by decide) (lw_V q419 q421 qs2 q127 q422) rfl hy_X3_next rfl ⟨by omega, by omega⟩ rfl zc_0 (by decide) dX3_ask_93 h (fun g14 m15 h => ?_)
      refine gn_new znd_9 q619 dX3_ask_96 h (fun g16 m17 h => ?_)
      refine g_letr h (fun r18 h => ?_)
      refine g_dup dX3_ask_99 (zcat_r _) ?_
      refine g_iload_n dX3_ask_100 2 rfl ?_
      refine g_aload_n dX3_ask_101 1 rfl ?_
      refine g_aload_n dX3_ask_102 0 rfl ?_
      refine g_xVv (rv := fun x : Option Nat => va_rf x) [] (fun r0 e0 => hrec7 g16 m17 a0 r0 e0) zc3 (by decide) (lw_V q556 q558 qs6 q127 q559) rfl hy_X3_sum rfl ⟨by omega, by omega⟩ rfl (zc_r (zc_i (zc_r (zc_r zc_0)))) (by decide) dX3_ask_103 h (fun r19 g20 m21 h => ?_) (fun q22 g23 m24 hk6 h => ?_)
      rotate_left 1
      · refine g_out ?_ hk6
        have e := Option.some.inj h
        exact Kthr _ _ _ e
      obtain ⟨hs, h⟩ := zob_e h
      refine g_cINMn [.int v8, va_rf r2, va_rf r19] (fun m0 e0 => ok_X9_init (xl X) g20 m21 r18 v8 r2 r19 m0 e0) (lw_meth q623) q144 q621 q622 rfl hy_X9_init rfl ⟨by omega, by omega⟩ rfl (zc_r zc_0) (by decide) hs dX3_ask_106 h (fun m25 h => ?_)
      refine g_aret dX3_ask_109 hxt (by first | exact Or.inl ⟨_, rfl⟩ | exact Or.inr ⟨_, rfl⟩) ?_
      have e := Option.some.inj h
      exact Kret _ _ _ e
    have h := h1
    refine g_icmp_eq 92 dX3_ask_51 (by decide) (fun c => ?_) (fun c => ?_)
    · have h := zite_p h c
      refine zG.sub [2, 1, 0] rfl ?_
      have e := Option.some.inj h
      exact K9 e.symm
    · have h := zite_n h c
      refine g_iload_n dX3_ask_54 0 rfl ?_
      refine g_bipush (v := (62 : Int32)) dX3_ask_55 (by decide) ?_
      refine g_icmp_eq 92 dX3_ask_57 (by decide) (fun c => ?_) (fun c => ?_)
      · have h := zite_p h c
        refine zG.sub [2, 1, 0] rfl ?_
        have e := Option.some.inj h
        exact K9 e.symm
      · have h := zite_n h c
        refine g_iload_n dX3_ask_60 0 rfl ?_
        refine g_bipush (v := (61 : Int32)) dX3_ask_61 (by decide) ?_
        refine g_icmp_eq 92 dX3_ask_63 (by decide) (fun c => ?_) (fun c => ?_)
        · have h := zite_p h c
          refine zG.sub [2, 1, 0] rfl ?_
          have e := Option.some.inj h
          exact K9 e.symm
        · have h := zite_n h c
          refine g_iload_n dX3_ask_66 0 rfl ?_
          refine g_bipush (v := (35 : Int32)) dX3_ask_67 (by decide) ?_
          refine g_icmp_eq 92 dX3_ask_69 (by decide) (fun c => ?_) (fun c => ?_)
          · have h := zite_p h c
            refine zG.sub [2, 1, 0] rfl ?_
            have e := Option.some.inj h
            exact K9 e.symm
          · have h := zite_n h c
            refine g_iload_n dX3_ask_72 0 rfl ?_
            refine g_sipush (v := (303 : Int32)) dX3_ask_73 (by decide) ?_
            refine g_icmp_eq 92 dX3_ask_76 (by decide) (fun c => ?_) (fun c => ?_)
            · have h := zite_p h c
              refine zG.sub [2, 1, 0] rfl ?_
              have e := Option.some.inj h
              exact K9 e.symm
            · have h := zite_n h c
              refine g_iload_n dX3_ask_79 0 rfl ?_
              refine g_sipush (v := (304 : Int32)) dX3_ask_80 (by decide) ?_
              refine g_icmp_eq 92 dX3_ask_83 (by decide) (fun c => ?_) (fun c => ?_)
              · have h := zite_p h c
                refine zG.sub [2, 1, 0] rfl ?_
                have e := Option.some.inj h
                exact K9 e.symm
              · have h := zite_n h c
                refine g_aload_n dX3_ask_86 2 rfl ?_
                refine g_iconst (v := (1 : Int32)) dX3_ask_87 (by decide) ?_
                refine g_cVAv (rv := fun x : Option Nat => va_rf x) [.int (1 : Int32)] (fun x0 g0 m0 e0 => ok_X3_wrong (xl X) g3 m4 a0 (1 : Int32) x0 g0 m0 e0) zc3 (by decide) (lw_V q488 q490 qs4 q127 q491) rfl hy_X3_wrong rfl ⟨by omega, by omega⟩ rfl zc_0 (by decide) dX3_ask_88 h (fun r10 g11 m12 h => ?_)
                refine g_athrow dX3_ask_91 h (fun q13 hk6 h => ?_)
                refine g_out ?_ hk6
                have e := Option.some.inj h
                have e := hl9 _ e.symm
                exact Kthr _ _ _ e
  · have h := zite_p h c
    refine g_aload_n dX3_ask_10 0 rfl ?_
    refine g_xVn [] (fun r0 e0 => ok_X3_opens (xl X) g m a0 r0 e0) zc3 (by decide) (lw_V q591 q593 qs11 q127 q594) rfl hy_X3_opens rfl ⟨by omega, by omega⟩ rfl zc_0 (by decide) dX3_ask_11 h (fun _ g26 m27 h => ?_) (fun q28 g29 m30 hk6 h => ?_)
    rotate_left 1
    · refine g_out ?_ hk6
      have e := Option.some.inj h
      exact Kthr _ _ _ e
    refine gn_new znd_8 q609 dX3_ask_14 h (fun g31 m32 h => ?_)
    refine g_letr h (fun r33 h => ?_)
    refine g_dup dX3_ask_17 (zcat_r _) ?_
    refine g_aload_n dX3_ask_18 0 rfl ?_
    refine g_xVv (rv := fun x : Option Nat => va_rf x) [] (fun r0 e0 => hrec1 g31 m32 a0 r0 e0) zc3 (by decide) (lw_V q605 q607 qs14 q127 q608) rfl hy_X3_ask rfl ⟨by omega, by omega⟩ rfl (zc_r (zc_r zc_0)) (by decide) dX3_ask_19 h (fun r34 g35 m36 h => ?_) (fun q37 g38 m39 hk6 h => ?_)
    rotate_left 1
    · refine g_out ?_ hk6
      have e := Option.some.inj h
      exact Kthr _ _ _ e
    obtain ⟨hs, h⟩ := zob_e h
    refine g_cINMn [va_rf r34] (fun m0 e0 => ok_X8_init (xl X) g35 m36 r33 r34 m0 e0) (lw_meth q613) q143 q611 q612 rfl hy_X8_init rfl ⟨by omega, by omega⟩ rfl (zc_r zc_0) (by decide) hs dX3_ask_22 h (fun m40 h => ?_)
    refine g_astore_n [(1, va_rf r33), (0, va_rf a0)] dX3_ask_25 (by decide) (zf_r zf_0) rfl ?_
    refine g_aload_n dX3_ask_26 1 rfl ?_
    refine g_dup dX3_ask_27 (zcat_r _) ?_
    refine gf_i zfd_3_6 q348  (fun _ h9 => h9) dX3_ask_28 h (fun v41 h => ?_)
    refine g_iconst (v := (1 : Int32)) dX3_ask_31 (by decide) ?_
    refine g_isub dX3_ask_32 ?_
    refine gp_i zpd_3_6 q348 (fun _ h9 => h9) dX3_ask_33 h (fun m42 h => ?_)
    refine g_aload_n dX3_ask_36 0 rfl ?_
    refine g_aret dX3_ask_37 hxt (by first | exact Or.inl ⟨_, rfl⟩ | exact Or.inr ⟨_, rfl⟩) ?_
    have e := Option.some.inj h
    exact Kret _ _ _ e
def b_X3_both_17 (rec : (zGd → zMm → Option Nat → Option (((Option Nat) × zGd × zMm) ⊕ (Nat × zGd × zMm))) × (zGd → zMm → Option Nat → Option (((Option Nat) × zGd × zMm) ⊕ (Nat × zGd × zMm))) × (zGd → zMm → Option Nat → Option (((Option Nat) × zGd × zMm) ⊕ (Nat × zGd × zMm))) × (zGd → zMm → Option Nat → Option (((Option Nat) × zGd × zMm) ⊕ (Nat × zGd × zMm))) × (zGd → zMm → Option Nat → Option (((Option Nat) × zGd × zMm) ⊕ (Nat × zGd × zMm))) × (zGd → zMm → Option Nat → Option (((Option Nat) × zGd × zMm) ⊕ (Nat × zGd × zMm))) × (zGd → zMm → Option Nat → Option (((Option Nat) × zGd × zMm) ⊕ (Nat × zGd × zMm)))) (a0 : Option Nat) (r3 : Option Nat) : zGd × zMm → Option ((((((Option Nat) × zGd × zMm) ⊕ (Nat × zGd × zMm)) ⊕ (zGd × zMm))) ⊕ (zGd × zMm)) := fun (g18, m19) =>
(zgi g18 m19 3 4 a0).bind fun v20 =>
if v20 = (218 : Int32) then ((zrc g18 3 a0 (f_X3_next g18 m19 a0)).bind fun (g21, m22) =>
zXd g21 3 a0 (rec.1 g21 m22 a0) (fun (q26, g27, m28) => some (.inl (.inl (.inr (q26, g27, m28))))) fun (r23, g24, m25) =>
(zrc g24 17 r3 (f_J2_add g24 m25 r3 r23)).bind fun (v29, g30, m31) =>
some (.inr (g30, m31)))
else (some (.inl (.inr (g18, m19))))
def q_X3_both (rec : (zGd → zMm → Option Nat → Option (((Option Nat) × zGd × zMm) ⊕ (Nat × zGd × zMm))) × (zGd → zMm → Option Nat → Option (((Option Nat) × zGd × zMm) ⊕ (Nat × zGd × zMm))) × (zGd → zMm → Option Nat → Option (((Option Nat) × zGd × zMm) ⊕ (Nat × zGd × zMm))) × (zGd → zMm → Option Nat → Option (((Option Nat) × zGd × zMm) ⊕ (Nat × zGd × zMm))) × (zGd → zMm → Option Nat → Option (((Option Nat) × zGd × zMm) ⊕ (Nat × zGd × zMm))) × (zGd → zMm → Option Nat → Option (((Option Nat) × zGd × zMm) ⊕ (Nat × zGd × zMm))) × (zGd → zMm → Option Nat → Option (((Option Nat) × zGd × zMm) ⊕ (Nat × zGd × zMm)))) (g : zGd) (m : zMm) (a0 : Option Nat) : Option (((Option Nat) × zGd × zMm) ⊕ (Nat × zGd × zMm)) :=
zlt (znewo g m 17) fun (g1, m2) =>
zlt (some (zZ g)) fun r3 =>
zob r3 ((f_J2_init g1 m2 r3).bind fun m4 =>
zXd g1 3 a0 (rec.1 g1 m4 a0) (fun (q8, g9, m10) => some (.inr (q8, g9, m10))) fun (r5, g6, m7) =>
(zrc g6 17 r3 (f_J2_add g6 m7 r3 r5)).bind fun (v11, g12, m13) =>
zEx (σ := zGd × zMm) (zLoop (b_X3_both_17 rec a0 r3) zFuel (g12, m13)) fun (g15, m16) =>
(zrc g15 17 r3 (f_J2_size g15 m16 r3)).bind fun v32 =>
if v32 = (1 : Int32) then ((zrc g15 17 r3 (f_J2_get g15 m16 r3 (0 : Int32))).bind fun r37 =>
(zcst [8, 9, 10] g15 r37).bind fun _ =>
some (.inl (r37, g15, m16)))
else (zlt (znewo g15 m16 10) fun (g33, m34) =>
zlt (some (zZ g15)) fun r35 =>
zob r35 ((f_X10_init g33 m34 r35 (1 : Int32) r3).bind fun m36 =>
some (.inl (r35, g33, m36)))))
set_option maxHeartbeats 4000000 in
theorem qk_X3_both (l : Launch) (g : zGd) (m : zMm) (fR lR : Nat) (rec : (zGd → zMm → Option Nat → Option (((Option Nat) × zGd × zMm) ⊕ (Nat × zGd × zMm))) × (zGd → zMm → Option Nat → Option (((Option Nat) × zGd × zMm) ⊕ (Nat × zGd × zMm))) × (zGd → zMm → Option Nat → Option (((Option Nat) × zGd × zMm) ⊕ (Nat × zGd × zMm))) × (zGd → zMm → Option Nat → Option (((Option Nat) × zGd × zMm) ⊕ (Nat × zGd × zMm))) × (zGd → zMm → Option Nat → Option (((Option Nat) × zGd × zMm) ⊕ (Nat × zGd × zMm))) × (zGd → zMm → Option Nat → Option (((Option Nat) × zGd × zMm) ⊕ (Nat × zGd × zMm))) × (zGd → zMm → Option Nat → Option (((Option Nat) × zGd × zMm) ⊕ (Nat × zGd × zMm)))) (hrec1 : ∀ (g : zGd) (m : zMm) (a0 : Option Nat) (r0 : ((Option Nat) × zGd × zMm) ⊕ (Nat × zGd × zMm)), rec.1 g m a0 = some r0 → zCTX l yX3_ask cX3_ask 3 (some (.object "QuiverKin$Asked")) fR lR g m [va_rf a0] (fun x : Option Nat => some (va_rf x)) r0) (hrec2 : ∀ (g : zGd) (m : zMm) (a0 : Option Nat) (r0 : ((Option Nat) × zGd × zMm) ⊕ (Nat × zGd × zMm)), rec.2.1 g m a0 = some r0 → zCTX l yX3_both cX3_both 2 (some (.object "QuiverKin$Asked")) fR lR g m [va_rf a0] (fun x : Option Nat => some (va_rf x)) r0) (hrec3 : ∀ (g : zGd) (m : zMm) (a0 : Option Nat) (r0 : ((Option Nat) × zGd × zMm) ⊕ (Nat × zGd × zMm)), rec.2.2.1 g m a0 = some r0 → zCTX l yX3_either cX3_either 2 (some (.object "QuiverKin$Asked")) fR lR g m [va_rf a0] (fun x : Option Nat => some (va_rf x)) r0) (hrec4 : ∀ (g : zGd) (m : zMm) (a0 : Option Nat) (r0 : ((Option Nat) × zGd × zMm) ⊕ (Nat × zGd × zMm)), rec.2.2.2.1 g m a0 = some r0 → zCTX l yX3_choice cX3_choice 4 (some (.object "QuiverKin$Sum")) fR lR g m [va_rf a0] (fun x : Option Nat => some (va_rf x)) r0) (hrec5 : ∀ (g : zGd) (m : zMm) (a0 : Option Nat) (r0 : ((Option Nat) × zGd × zMm) ⊕ (Nat × zGd × zMm)), rec.2.2.2.2.1 g m a0 = some r0 → zCTX l yX3_one cX3_one 5 (some (.object "QuiverKin$Sum")) fR lR g m [va_rf a0] (fun x : Option Nat => some (va_rf x)) r0) (hrec6 : ∀ (g : zGd) (m : zMm) (a0 : Option Nat) (r0 : ((Option Nat) × zGd × zMm) ⊕ (Nat × zGd × zMm)), rec.2.2.2.2.2.1 g m a0 = some r0 → zCTX l yX3_product cX3_product 3 (some (.object "QuiverKin$Sum")) fR lR g m [va_rf a0] (fun x : Option Nat => some (va_rf x)) r0) (hrec7 : ∀ (g : zGd) (m : zMm) (a0 : Option Nat) (r0 : ((Option Nat) × zGd × zMm) ⊕ (Nat × zGd × zMm)), rec.2.2.2.2.2.2 g m a0 = some r0 → zCTX l yX3_sum cX3_sum 3 (some (.object "QuiverKin$Sum")) fR lR g m [va_rf a0] (fun x : Option Nat => some (va_rf x)) r0) (a0 : Option Nat) (r0 : ((Option Nat) × zGd × zMm) ⊕ (Nat × zGd × zMm)) (h : q_X3_both rec g m a0 = some r0) : zCTX l yX3_both cX3_both 2 (some (.object "QuiverKin$Asked")) (9 + fR) (194 + lR) g m [va_rf a0] (fun x : Option Nat => some (va_rf x)) r0 := by
  unfold zCTX
  refine zXT.of (own := "QuiverKin$Tokens") (mn := "both") (by decide +kernel) rfl rfl (zla_r zla_0) (zls_r zls_0) (by decide) (fun X hxl hxg hxf hxt hxr hxn => ?_)
  have Kret : ∀ (x : Option Nat) (g1 : zGd) (m1 : zMm), .inl (x, g1, m1) = r0 → zRe X g1 m1 (some (va_rf x)) := by
    intro x g1 m1 e; cases e; exact ⟨hxf, hxr, hxn⟩
  have Kthr : ∀ (q : Nat) (g1 : zGd) (m1 : zMm), .inr (q, g1, m1) = r0 → zRt X g1 m1 q := by
    intro q g1 m1 e; cases e; exact ⟨hxf, hxr, hxn⟩
  subst hxl
  show zG X cX3_both 2 "QuiverKin$Tokens" "both" (9 + fR) (194 + lR) 0 [(0, va_rf a0)] [] g m
  unfold q_X3_both at h
  refine gn_new znd_17 q599 dX3_both_0 h (fun g1 m2 h => ?_)
  refine g_letr h (fun r3 h => ?_)
  refine g_dup dX3_both_3 (zcat_r _) ?_
  obtain ⟨hs, h⟩ := zob_e h
  refine g_cIMn [] (fun m0 e0 => ok_J2_init (xl X) g1 m2 r3 m0 e0) (lw_meth q383) q131 q600 q382 rfl hy_J2_init rfl ⟨by omega, by omega⟩ rfl (zc_r zc_0) (by decide) hs dX3_both_4 h (fun m4 h => ?_)
  refine g_astore_n [(1, va_rf r3), (0, va_rf a0)] dX3_both_7 (by decide) (zf_r zf_0) rfl ?_
  refine g_aload_n dX3_both_8 0 rfl ?_
  refine g_aload_n dX3_both_9 1 rfl ?_
  refine g_xVv (rv := fun x : Option Nat => va_rf x) [] (fun r0 e0 => hrec1 g1 m4 a0 r0 e0) zc3 (by decide) (lw_V q605 q607 qs14 q127 q608) rfl hy_X3_ask rfl ⟨by omega, by omega⟩ rfl (zc_r zc_0) (by decide) dX3_both_10 h (fun r5 g6 m7 h => ?_) (fun q8 g9 m10 hk6 h => ?_)
  rotate_left 1
  · refine g_out ?_ hk6
    have e := Option.some.inj h
    exact Kthr _ _ _ e
  refine g_cVAv (rv := fun x : Int32 => Value.int x) [va_rf r5] (fun x0 g0 m0 e0 => ok_J2_add (xl X) g6 m7 r3 r5 x0 g0 m0 e0) zc17 (by decide) (lw_V q635 q636 q637 q131 q638) rfl hy_J2_add rfl ⟨by omega, by omega⟩ rfl zc_0 (by decide) dX3_both_13 h (fun v11 g12 m13 h => ?_)
  refine g_pop dX3_both_16 rfl ?_
  obtain ⟨o14, h1, hl14, hr14⟩ := zEx_e h
  have K14 : ∀ (g15 : zGd) (m16 : zMm), o14 = .inr (g15, m16) → zG X cX3_both 2 "QuiverKin$Tokens" "both" (9 + fR) (194 + lR) 43 [(1, va_rf r3)] [] g15 m16 := by
    intro g15 m16 e
    have h := hr14 _ e
    refine g_aload_n dX3_both_43 0 rfl ?_
    refine g_cVRv (rv := fun x : Int32 => Value.int x) [] (fun x0 e0 => ok_J2_size (xl X) g15 m16 r3 x0 e0) zc17 (by decide) (lw_V q697 q698 q699 q131 q700) rfl hy_J2_size rfl ⟨by omega, by omega⟩ rfl zc_0 (by decide) dX3_both_44 h (fun v32 h => ?_)
    refine g_iconst (v := (1 : Int32)) dX3_both_47 (by decide) ?_
    refine g_icmp_ne 62 dX3_both_48 (by decide) (fun c => ?_) (fun c => ?_)
    · have h := zite_n h c
      refine gn_new znd_10 q714 dX3_both_62 h (fun g33 m34 h => ?_)
      refine g_letr h (fun r35 h => ?_)
      refine g_dup dX3_both_65 (zcat_r _) ?_
      refine g_iconst (v := (1 : Int32)) dX3_both_66 (by decide) ?_
      refine g_aload_n dX3_both_67 0 rfl ?_
      obtain ⟨hs, h⟩ := zob_e h
      refine g_cINMn [.int (1 : Int32), va_rf r3] (fun m0 e0 => ok_X10_init (xl X) g33 m34 r35 (1 : Int32) r3 m0 e0) (lw_meth q718) q148 q716 q717 rfl hy_X10_init rfl ⟨by omega, by omega⟩ rfl (zc_r zc_0) (by decide) hs dX3_both_68 h (fun m36 h => ?_)
      refine g_aret dX3_both_71 hxt (by first | exact Or.inl ⟨_, rfl⟩ | exact Or.inr ⟨_, rfl⟩) ?_
      have e := Option.some.inj h
      exact Kret _ _ _ e
    · have h := zite_p h c
      refine g_aload_n dX3_both_51 0 rfl ?_
      refine g_iconst (v := (0 : Int32)) dX3_both_52 (by decide) ?_
      refine g_cVRv (rv := fun x : Option Nat => va_rf x) [.int (0 : Int32)] (fun x0 e0 => ok_J2_get (xl X) g15 m16 r3 (0 : Int32) x0 e0) zc17 (by decide) (lw_V q701 q702 q703 q131 q704) rfl hy_J2_get rfl ⟨by omega, by omega⟩ rfl zc_0 (by decide) dX3_both_53 h (fun r37 h => ?_)
      refine g_cast [8, 9, 10] q713 zcsA dX3_both_56 h (fun h => ?_)
      refine g_goto 71 dX3_both_59 (by decide) ?_
      refine g_aret dX3_both_71 hxt (by first | exact Or.inl ⟨_, rfl⟩ | exact Or.inr ⟨_, rfl⟩) ?_
      have e := Option.some.inj h
      exact Kret _ _ _ e
  refine zG.sub [1, 0] rfl ?_
  refine zLoop_ok (Φ := (fun (q : zGd × zMm) => match q with | (g18, m19) => zG X cX3_both 2 "QuiverKin$Tokens" "both" (9 + fR) (194 + lR) 17 [(0, va_rf a0), (1, va_rf r3)] [] g18 m19)) o14 ?_ zFuel _ h1
  rintro ⟨g18, m19⟩ x17 h hl17 hr17
  unfold b_X3_both_17 at h
  have K17 : ∀ (g18 : zGd) (m19 : zMm), x17 = .inr (g18, m19) → zG X cX3_both 2 "QuiverKin$Tokens" "both" (9 + fR) (194 + lR) 17 [(0, va_rf a0), (1, va_rf r3)] [] g18 m19 := by
    intro g18 m19 e
    exact hr17 _ e
  show zG X cX3_both 2 "QuiverKin$Tokens" "both" (9 + fR) (194 + lR) 17 [(0, va_rf a0), (1, va_rf r3)] [] g18 m19
  refine g_aload_n dX3_both_17 0 rfl ?_
  refine gf_i zfd_3_4 q346  (fun _ h9 => h9) dX3_both_18 h (fun v20 h => ?_)
  refine g_sipush (v := (218 : Int32)) dX3_both_21 (by decide) ?_
  refine g_icmp_ne 43 dX3_both_24 (by decide) (fun c => ?_) (fun c => ?_)
  · have h := zite_n h c
    refine zG.sub [1] rfl ?_
    have e := Option.some.inj h
    have e := hl17 _ e.symm
    exact K14 _ _ e.symm
  · have h := zite_p h c
    refine g_aload_n dX3_both_27 0 rfl ?_
    refine g_cVAn [] (fun g0 m0 e0 => ok_X3_next (xl X) g18 m19 a0 g0 m0 e0) zc3 (by decide) (lw_V q419 q421 qs2 q127 q422) rfl hy_X3_next rfl ⟨by omega, by omega⟩ rfl zc_0 (by decide) dX3_both_28 h (fun g21 m22 h => ?_)
    refine g_aload_n dX3_both_31 1 rfl ?_
    refine g_aload_n dX3_both_32 0 rfl ?_
    refine g_xVv (rv := fun x : Option Nat => va_rf x) [] (fun r0 e0 => hrec1 g21 m22 a0 r0 e0) zc3 (by decide) (lw_V q605 q607 qs14 q127 q608) rfl hy_X3_ask rfl ⟨by omega, by omega⟩ rfl (zc_r zc_0) (by decide) dX3_both_33 h (fun r23 g24 m25 h => ?_) (fun q26 g27 m28 hk6 h => ?_)
    rotate_left 1
    · refine g_out ?_ hk6
      have e := Option.some.inj h
      have e := hl17 _ e.symm
      have e := hl14 _ e.symm
      exact Kthr _ _ _ e
    refine g_cVAv (rv := fun x : Int32 => Value.int x) [va_rf r23] (fun x0 g0 m0 e0 => ok_J2_add (xl X) g24 m25 r3 r23 x0 g0 m0 e0) zc17 (by decide) (lw_V q635 q636 q637 q131 q638) rfl hy_J2_add rfl ⟨by omega, by omega⟩ rfl zc_0 (by decide) dX3_both_36 h (fun v29 g30 m31 h => ?_)
    refine g_pop dX3_both_39 rfl ?_
    refine g_goto 17 dX3_both_40 (by decide) ?_
    refine zG.sub [0, 1] rfl ?_
    have e := Option.some.inj h
    exact K17 _ _ e.symm
def b_X3_either_17 (rec : (zGd → zMm → Option Nat → Option (((Option Nat) × zGd × zMm) ⊕ (Nat × zGd × zMm))) × (zGd → zMm → Option Nat → Option (((Option Nat) × zGd × zMm) ⊕ (Nat × zGd × zMm))) × (zGd → zMm → Option Nat → Option (((Option Nat) × zGd × zMm) ⊕ (Nat × zGd × zMm))) × (zGd → zMm → Option Nat → Option (((Option Nat) × zGd × zMm) ⊕ (Nat × zGd × zMm))) × (zGd → zMm → Option Nat → Option (((Option Nat) × zGd × zMm) ⊕ (Nat × zGd × zMm))) × (zGd → zMm → Option Nat → Option (((Option Nat) × zGd × zMm) ⊕ (Nat × zGd × zMm))) × (zGd → zMm → Option Nat → Option (((Option Nat) × zGd × zMm) ⊕ (Nat × zGd × zMm)))) (a0 : Option Nat) (r3 : Option Nat) : zGd × zMm → Option ((((((Option Nat) × zGd × zMm) ⊕ (Nat × zGd × zMm)) ⊕ (zGd × zMm))) ⊕ (zGd × zMm)) := fun (g18, m19) =>
(zgi g18 m19 3 4 a0).bind fun v20 =>
if v20 = (217 : Int32) then ((zrc g18 3 a0 (f_X3_next g18 m19 a0)).bind fun (g21, m22) =>
zXd g21 3 a0 (rec.2.1 g21 m22 a0) (fun (q26, g27, m28) => some (.inl (.inl (.inr (q26, g27, m28))))) fun (r23, g24, m25) =>
(zrc g24 17 r3 (f_J2_add g24 m25 r3 r23)).bind fun (v29, g30, m31) =>
some (.inr (g30, m31)))
else (some (.inl (.inr (g18, m19))))
def q_X3_either (rec : (zGd → zMm → Option Nat → Option (((Option Nat) × zGd × zMm) ⊕ (Nat × zGd × zMm))) × (zGd → zMm → Option Nat → Option (((Option Nat) × zGd × zMm) ⊕ (Nat × zGd × zMm))) × (zGd → zMm → Option Nat → Option (((Option Nat) × zGd × zMm) ⊕ (Nat × zGd × zMm))) × (zGd → zMm → Option Nat → Option (((Option Nat) × zGd × zMm) ⊕ (Nat × zGd × zMm))) × (zGd → zMm → Option Nat → Option (((Option Nat) × zGd × zMm) ⊕ (Nat × zGd × zMm))) × (zGd → zMm → Option Nat → Option (((Option Nat) × zGd × zMm) ⊕ (Nat × zGd × zMm))) × (zGd → zMm → Option Nat → Option (((Option Nat) × zGd × zMm) ⊕ (Nat × zGd × zMm)))) (g : zGd) (m : zMm) (a0 : Option Nat) : Option (((Option Nat) × zGd × zMm) ⊕ (Nat × zGd × zMm)) :=
zlt (znewo g m 17) fun (g1, m2) =>
zlt (some (zZ g)) fun r3 =>
zob r3 ((f_J2_init g1 m2 r3).bind fun m4 =>
zXd g1 3 a0 (rec.2.1 g1 m4 a0) (fun (q8, g9, m10) => some (.inr (q8, g9, m10))) fun (r5, g6, m7) =>
(zrc g6 17 r3 (f_J2_add g6 m7 r3 r5)).bind fun (v11, g12, m13) =>
zEx (σ := zGd × zMm) (zLoop (b_X3_either_17 rec a0 r3) zFuel (g12, m13)) fun (g15, m16) =>
(zrc g15 17 r3 (f_J2_size g15 m16 r3)).bind fun v32 =>
if v32 = (1 : Int32) then ((zrc g15 17 r3 (f_J2_get g15 m16 r3 (0 : Int32))).bind fun r37 =>
(zcst [8, 9, 10] g15 r37).bind fun _ =>
some (.inl (r37, g15, m16)))
else (zlt (znewo g15 m16 10) fun (g33, m34) =>
zlt (some (zZ g15)) fun r35 =>
zob r35 ((f_X10_init g33 m34 r35 (0 : Int32) r3).bind fun m36 =>
some (.inl (r35, g33, m36)))))
set_option maxHeartbeats 4000000 in
theorem qk_X3_either (l : Launch) (g : zGd) (m : zMm) (fR lR : Nat) (rec : (zGd → zMm → Option Nat → Option (((Option Nat) × zGd × zMm) ⊕ (Nat × zGd × zMm))) × (zGd → zMm → Option Nat → Option (((Option Nat) × zGd × zMm) ⊕ (Nat × zGd × zMm))) × (zGd → zMm → Option Nat → Option (((Option Nat) × zGd × zMm) ⊕ (Nat × zGd × zMm))) × (zGd → zMm → Option Nat → Option (((Option Nat) × zGd × zMm) ⊕ (Nat × zGd × zMm))) × (zGd → zMm → Option Nat → Option (((Option Nat) × zGd × zMm) ⊕ (Nat × zGd × zMm))) × (zGd → zMm → Option Nat → Option (((Option Nat) × zGd × zMm) ⊕ (Nat × zGd × zMm))) × (zGd → zMm → Option Nat → Option (((Option Nat) × zGd × zMm) ⊕ (Nat × zGd × zMm)))) (hrec1 : ∀ (g : zGd) (m : zMm) (a0 : Option Nat) (r0 : ((Option Nat) × zGd × zMm) ⊕ (Nat × zGd × zMm)), rec.1 g m a0 = some r0 → zCTX l yX3_ask cX3_ask 3 (some (.object "QuiverKin$Asked")) fR lR g m [va_rf a0] (fun x : Option Nat => some (va_rf x)) r0) (hrec2 : ∀ (g : zGd) (m : zMm) (a0 : Option Nat) (r0 : ((Option Nat) × zGd × zMm) ⊕ (Nat × zGd × zMm)), rec.2.1 g m a0 = some r0 → zCTX l yX3_both cX3_both 2 (some (.object "QuiverKin$Asked")) fR lR g m [va_rf a0] (fun x : Option Nat => some (va_rf x)) r0) (hrec3 : ∀ (g : zGd) (m : zMm) (a0 : Option Nat) (r0 : ((Option Nat) × zGd × zMm) ⊕ (Nat × zGd × zMm)), rec.2.2.1 g m a0 = some r0 → zCTX l yX3_either cX3_either 2 (some (.object "QuiverKin$Asked")) fR lR g m [va_rf a0] (fun x : Option Nat => some (va_rf x)) r0) (hrec4 : ∀ (g : zGd) (m : zMm) (a0 : Option Nat) (r0 : ((Option Nat) × zGd × zMm) ⊕ (Nat × zGd × zMm)), rec.2.2.2.1 g m a0 = some r0 → zCTX l yX3_choice cX3_choice 4 (some (.object "QuiverKin$Sum")) fR lR g m [va_rf a0] (fun x : Option Nat => some (va_rf x)) r0) (hrec5 : ∀ (g : zGd) (m : zMm) (a0 : Option Nat) (r0 : ((Option Nat) × zGd × zMm) ⊕ (Nat × zGd × zMm)), rec.2.2.2.2.1 g m a0 = some r0 → zCTX l yX3_one cX3_one 5 (some (.object "QuiverKin$Sum")) fR lR g m [va_rf a0] (fun x : Option Nat => some (va_rf x)) r0) (hrec6 : ∀ (g : zGd) (m : zMm) (a0 : Option Nat) (r0 : ((Option Nat) × zGd × zMm) ⊕ (Nat × zGd × zMm)), rec.2.2.2.2.2.1 g m a0 = some r0 → zCTX l yX3_product cX3_product 3 (some (.object "QuiverKin$Sum")) fR lR g m [va_rf a0] (fun x : Option Nat => some (va_rf x)) r0) (hrec7 : ∀ (g : zGd) (m : zMm) (a0 : Option Nat) (r0 : ((Option Nat) × zGd × zMm) ⊕ (Nat × zGd × zMm)), rec.2.2.2.2.2.2 g m a0 = some r0 → zCTX l yX3_sum cX3_sum 3 (some (.object "QuiverKin$Sum")) fR lR g m [va_rf a0] (fun x : Option Nat => some (va_rf x)) r0) (a0 : Option Nat) (r0 : ((Option Nat) × zGd × zMm) ⊕ (Nat × zGd × zMm)) (h : q_X3_either rec g m a0 = some r0) : zCTX l yX3_either cX3_either 2 (some (.object "QuiverKin$Asked")) (9 + fR) (194 + lR) g m [va_rf a0] (fun x : Option Nat => some (va_rf x)) r0 := by
  unfold zCTX
  refine zXT.of (own := "QuiverKin$Tokens") (mn := "either") (by decide +kernel) rfl rfl (zla_r zla_0) (zls_r zls_0) (by decide) (fun X hxl hxg hxf hxt hxr hxn => ?_)
  have Kret : ∀ (x : Option Nat) (g1 : zGd) (m1 : zMm), .inl (x, g1, m1) = r0 → zRe X g1 m1 (some (va_rf x)) := by
    intro x g1 m1 e; cases e; exact ⟨hxf, hxr, hxn⟩
  have Kthr : ∀ (q : Nat) (g1 : zGd) (m1 : zMm), .inr (q, g1, m1) = r0 → zRt X g1 m1 q := by
    intro q g1 m1 e; cases e; exact ⟨hxf, hxr, hxn⟩
  subst hxl
  show zG X cX3_either 2 "QuiverKin$Tokens" "either" (9 + fR) (194 + lR) 0 [(0, va_rf a0)] [] g m
  unfold q_X3_either at h
  refine gn_new znd_17 q599 dX3_either_0 h (fun g1 m2 h => ?_)
  refine g_letr h (fun r3 h => ?_)
  refine g_dup dX3_either_3 (zcat_r _) ?_
  obtain ⟨hs, h⟩ := zob_e h
  refine g_cIMn [] (fun m0 e0 => ok_J2_init (xl X) g1 m2 r3 m0 e0) (lw_meth q383) q131 q600 q382 rfl hy_J2_init rfl ⟨by omega, by omega⟩ rfl (zc_r zc_0) (by decide) hs dX3_either_4 h (fun m4 h => ?_)
  refine g_astore_n [(1, va_rf r3), (0, va_rf a0)] dX3_either_7 (by decide) (zf_r zf_0) rfl ?_
  refine g_aload_n dX3_either_8 0 rfl ?_
  refine g_aload_n dX3_either_9 1 rfl ?_
  refine g_xVv (rv := fun x : Option Nat => va_rf x) [] (fun r0 e0 => hrec2 g1 m4 a0 r0 e0) zc3 (by decide) (lw_V q601 q603 qs13 q127 q604) rfl hy_X3_both rfl ⟨by omega, by omega⟩ rfl (zc_r zc_0) (by decide) dX3_either_10 h (fun r5 g6 m7 h => ?_) (fun q8 g9 m10 hk6 h => ?_)
  rotate_left 1
  · refine g_out ?_ hk6
    have e := Option.some.inj h
    exact Kthr _ _ _ e
  refine g_cVAv (rv := fun x : Int32 => Value.int x) [va_rf r5] (fun x0 g0 m0 e0 => ok_J2_add (xl X) g6 m7 r3 r5 x0 g0 m0 e0) zc17 (by decide) (lw_V q635 q636 q637 q131 q638) rfl hy_J2_add rfl ⟨by omega, by omega⟩ rfl zc_0 (by decide) dX3_either_13 h (fun v11 g12 m13 h => ?_)
  refine g_pop dX3_either_16 rfl ?_
  obtain ⟨o14, h1, hl14, hr14⟩ := zEx_e h
  have K14 : ∀ (g15 : zGd) (m16 : zMm), o14 = .inr (g15, m16) → zG X cX3_either 2 "QuiverKin$Tokens" "either" (9 + fR) (194 + lR) 43 [(1, va_rf r3)] [] g15 m16 := by
    intro g15 m16 e
    have h := hr14 _ e
    refine g_aload_n dX3_either_43 0 rfl ?_
    refine g_cVRv (rv := fun x : Int32 => Value.int x) [] (fun x0 e0 => ok_J2_size (xl X) g15 m16 r3 x0 e0) zc17 (by decide) (lw_V q697 q698 q699 q131 q700) rfl hy_J2_size rfl ⟨by omega, by omega⟩ rfl zc_0 (by decide) dX3_either_44 h (fun v32 h => ?_)
    refine g_iconst (v := (1 : Int32)) dX3_either_47 (by decide) ?_
    refine g_icmp_ne 62 dX3_either_48 (by decide) (fun c => ?_) (fun c => ?_)
    · have h := zite_n h c
      refine gn_new znd_10 q714 dX3_either_62 h (fun g33 m34 h => ?_)
      refine g_letr h (fun r35 h => ?_)
      refine g_dup dX3_either_65 (zcat_r _) ?_
      refine g_iconst (v := (0 : Int32)) dX3_either_66 (by decide) ?_
      refine g_aload_n dX3_either_67 0 rfl ?_
      obtain ⟨hs, h⟩ := zob_e h
      refine g_cINMn [.int (0 : Int32), va_rf r3] (fun m0 e0 => ok_X10_init (xl X) g33 m34 r35 (0 : Int32) r3 m0 e0) (lw_meth q718) q148 q716 q717 rfl hy_X10_init rfl ⟨by omega, by omega⟩ rfl (zc_r zc_0) (by decide) hs dX3_either_68 h (fun m36 h => ?_)
      refine g_aret dX3_either_71 hxt (by first | exact Or.inl ⟨_, rfl⟩ | exact Or.inr ⟨_, rfl⟩) ?_
      have e := Option.some.inj h
      exact Kret _ _ _ e
    · have h := zite_p h c
      refine g_aload_n dX3_either_51 0 rfl ?_
      refine g_iconst (v := (0 : Int32)) dX3_either_52 (by decide) ?_
      refine g_cVRv (rv := fun x : Option Nat => va_rf x) [.int (0 : Int32)] (fun x0 e0 => ok_J2_get (xl X) g15 m16 r3 (0 : Int32) x0 e0) zc17 (by decide) (lw_V q701 q702 q703 q131 q704) rfl hy_J2_get rfl ⟨by omega, by omega⟩ rfl zc_0 (by decide) dX3_either_53 h (fun r37 h => ?_)
      refine g_cast [8, 9, 10] q713 zcsA dX3_either_56 h (fun h => ?_)
      refine g_goto 71 dX3_either_59 (by decide) ?_
      refine g_aret dX3_either_71 hxt (by first | exact Or.inl ⟨_, rfl⟩ | exact Or.inr ⟨_, rfl⟩) ?_
      have e := Option.some.inj h
      exact Kret _ _ _ e
  refine zG.sub [1, 0] rfl ?_
  refine zLoop_ok (Φ := (fun (q : zGd × zMm) => match q with | (g18, m19) => zG X cX3_either 2 "QuiverKin$Tokens" "either" (9 + fR) (194 + lR) 17 [(0, va_rf a0), (1, va_rf r3)] [] g18 m19)) o14 ?_ zFuel _ h1
  rintro ⟨g18, m19⟩ x17 h hl17 hr17
  unfold b_X3_either_17 at h
  have K17 : ∀ (g18 : zGd) (m19 : zMm), x17 = .inr (g18, m19) → zG X cX3_either 2 "QuiverKin$Tokens" "either" (9 + fR) (194 + lR) 17 [(0, va_rf a0), (1, va_rf r3)] [] g18 m19 := by
    intro g18 m19 e
    exact hr17 _ e
  show zG X cX3_either 2 "QuiverKin$Tokens" "either" (9 + fR) (194 + lR) 17 [(0, va_rf a0), (1, va_rf r3)] [] g18 m19
  refine g_aload_n dX3_either_17 0 rfl ?_
  refine gf_i zfd_3_4 q346  (fun _ h9 => h9) dX3_either_18 h (fun v20 h => ?_)
  refine g_sipush (v := (217 : Int32)) dX3_either_21 (by decide) ?_
  refine g_icmp_ne 43 dX3_either_24 (by decide) (fun c => ?_) (fun c => ?_)
  · have h := zite_n h c
    refine zG.sub [1] rfl ?_
    have e := Option.some.inj h
    have e := hl17 _ e.symm
    exact K14 _ _ e.symm
  · have h := zite_p h c
    refine g_aload_n dX3_either_27 0 rfl ?_
    refine g_cVAn [] (fun g0 m0 e0 => ok_X3_next (xl X) g18 m19 a0 g0 m0 e0) zc3 (by decide) (lw_V q419 q421 qs2 q127 q422) rfl hy_X3_next rfl ⟨by omega, by omega⟩ rfl zc_0 (by decide) dX3_either_28 h (fun g21 m22 h => ?_)
    refine g_aload_n dX3_either_31 1 rfl ?_
    refine g_aload_n dX3_either_32 0 rfl ?_
    refine g_xVv (rv := fun x : Option Nat => va_rf x) [] (fun r0 e0 => hrec2 g21 m22 a0 r0 e0) zc3 (by decide) (lw_V q601 q603 qs13 q127 q604) rfl hy_X3_both rfl ⟨by omega, by omega⟩ rfl (zc_r zc_0) (by decide) dX3_either_33 h (fun r23 g24 m25 h => ?_) (fun q26 g27 m28 hk6 h => ?_)
    rotate_left 1
    · refine g_out ?_ hk6
      have e := Option.some.inj h
      have e := hl17 _ e.symm
      have e := hl14 _ e.symm
      exact Kthr _ _ _ e
    refine g_cVAv (rv := fun x : Int32 => Value.int x) [va_rf r23] (fun x0 g0 m0 e0 => ok_J2_add (xl X) g24 m25 r3 r23 x0 g0 m0 e0) zc17 (by decide) (lw_V q635 q636 q637 q131 q638) rfl hy_J2_add rfl ⟨by omega, by omega⟩ rfl zc_0 (by decide) dX3_either_36 h (fun v29 g30 m31 h => ?_)
    refine g_pop dX3_either_39 rfl ?_
    refine g_goto 17 dX3_either_40 (by decide) ?_
    refine zG.sub [0, 1] rfl ?_
    have e := Option.some.inj h
    exact K17 _ _ e.symm
def q_X3_choice (rec : (zGd → zMm → Option Nat → Option (((Option Nat) × zGd × zMm) ⊕ (Nat × zGd × zMm))) × (zGd → zMm → Option Nat → Option (((Option Nat) × zGd × zMm) ⊕ (Nat × zGd × zMm))) × (zGd → zMm → Option Nat → Option (((Option Nat) × zGd × zMm) ⊕ (Nat × zGd × zMm))) × (zGd → zMm → Option Nat → Option (((Option Nat) × zGd × zMm) ⊕ (Nat × zGd × zMm))) × (zGd → zMm → Option Nat → Option (((Option Nat) × zGd × zMm) ⊕ (Nat × zGd × zMm))) × (zGd → zMm → Option Nat → Option (((Option Nat) × zGd × zMm) ⊕ (Nat × zGd × zMm))) × (zGd → zMm → Option Nat → Option (((Option Nat) × zGd × zMm) ⊕ (Nat × zGd × zMm)))) (g : zGd) (m : zMm) (a0 : Option Nat) : Option (((Option Nat) × zGd × zMm) ⊕ (Nat × zGd × zMm)) :=
zXd g 3 a0 (f_X3_opens g m a0) (fun (q3, g4, m5) => some (.inr (q3, g4, m5))) fun (_, g1, m2) =>
zXd g1 3 a0 (rec.2.2.1 g1 m2 a0) (fun (q9, g10, m11) => some (.inr (q9, g10, m11))) fun (r6, g7, m8) =>
zXd g7 3 a0 (f_X3_want g7 m8 a0 (214 : Int32)) (fun (q14, g15, m16) => some (.inr (q14, g15, m16))) fun (_, g12, m13) =>
zXd g12 3 a0 (rec.2.2.2.2.2.2 g12 m13 a0) (fun (q20, g21, m22) => some (.inr (q20, g21, m22))) fun (r17, g18, m19) =>
zXd g18 3 a0 (f_X3_want g18 m19 a0 (215 : Int32)) (fun (q25, g26, m27) => some (.inr (q25, g26, m27))) fun (_, g23, m24) =>
zXd g23 3 a0 (rec.2.2.2.2.2.2 g23 m24 a0) (fun (q31, g32, m33) => some (.inr (q31, g32, m33))) fun (r28, g29, m30) =>
zXd g29 3 a0 (f_X3_want g29 m30 a0 (216 : Int32)) (fun (q36, g37, m38) => some (.inr (q36, g37, m38))) fun (_, g34, m35) =>
(zgi g34 m35 3 6 a0).bind fun v39 =>
(zpi g34 m35 3 6 a0 (v39 - (1 : Int32))).bind fun m40 =>
zlt (znewo g34 m40 11) fun (g41, m42) =>
zlt (some (zZ g34)) fun r43 =>
zob r43 ((f_X11_init g41 m42 r43 r6 r17 r28).bind fun m44 =>
some (.inl (r43, g41, m44)))
set_option maxHeartbeats 4000000 in
theorem qk_X3_choice (l : Launch) (g : zGd) (m : zMm) (fR lR : Nat) (rec : (zGd → zMm → Option Nat → Option (((Option Nat) × zGd × zMm) ⊕ (Nat × zGd × zMm))) × (zGd → zMm → Option Nat → Option (((Option Nat) × zGd × zMm) ⊕ (Nat × zGd × zMm))) × (zGd → zMm → Option Nat → Option (((Option Nat) × zGd × zMm) ⊕ (Nat × zGd × zMm))) × (zGd → zMm → Option Nat → Option (((Option Nat) × zGd × zMm) ⊕ (Nat × zGd × zMm))) × (zGd → zMm → Option Nat → Option (((Option Nat) × zGd × zMm) ⊕ (Nat × zGd × zMm))) × (zGd → zMm → Option Nat → Option (((Option Nat) × zGd × zMm) ⊕ (Nat × zGd × zMm))) × (zGd → zMm → Option Nat → Option (((Option Nat) × zGd × zMm) ⊕ (Nat × zGd × zMm)))) (hrec1 : ∀ (g : zGd) (m : zMm) (a0 : Option Nat) (r0 : ((Option Nat) × zGd × zMm) ⊕ (Nat × zGd × zMm)), rec.1 g m a0 = some r0 → zCTX l yX3_ask cX3_ask 3 (some (.object "QuiverKin$Asked")) fR lR g m [va_rf a0] (fun x : Option Nat => some (va_rf x)) r0) (hrec2 : ∀ (g : zGd) (m : zMm) (a0 : Option Nat) (r0 : ((Option Nat) × zGd × zMm) ⊕ (Nat × zGd × zMm)), rec.2.1 g m a0 = some r0 → zCTX l yX3_both cX3_both 2 (some (.object "QuiverKin$Asked")) fR lR g m [va_rf a0] (fun x : Option Nat => some (va_rf x)) r0) (hrec3 : ∀ (g : zGd) (m : zMm) (a0 : Option Nat) (r0 : ((Option Nat) × zGd × zMm) ⊕ (Nat × zGd × zMm)), rec.2.2.1 g m a0 = some r0 → zCTX l yX3_either cX3_either 2 (some (.object "QuiverKin$Asked")) fR lR g m [va_rf a0] (fun x : Option Nat => some (va_rf x)) r0) (hrec4 : ∀ (g : zGd) (m : zMm) (a0 : Option Nat) (r0 : ((Option Nat) × zGd × zMm) ⊕ (Nat × zGd × zMm)), rec.2.2.2.1 g m a0 = some r0 → zCTX l yX3_choice cX3_choice 4 (some (.object "QuiverKin$Sum")) fR lR g m [va_rf a0] (fun x : Option Nat => some (va_rf x)) r0) (hrec5 : ∀ (g : zGd) (m : zMm) (a0 : Option Nat) (r0 : ((Option Nat) × zGd × zMm) ⊕ (Nat × zGd × zMm)), rec.2.2.2.2.1 g m a0 = some r0 → zCTX l yX3_one cX3_one 5 (some (.object "QuiverKin$Sum")) fR lR g m [va_rf a0] (fun x : Option Nat => some (va_rf x)) r0) (hrec6 : ∀ (g : zGd) (m : zMm) (a0 : Option Nat) (r0 : ((Option Nat) × zGd × zMm) ⊕ (Nat × zGd × zMm)), rec.2.2.2.2.2.1 g m a0 = some r0 → zCTX l yX3_product cX3_product 3 (some (.object "QuiverKin$Sum")) fR lR g m [va_rf a0] (fun x : Option Nat => some (va_rf x)) r0) (hrec7 : ∀ (g : zGd) (m : zMm) (a0 : Option Nat) (r0 : ((Option Nat) × zGd × zMm) ⊕ (Nat × zGd × zMm)), rec.2.2.2.2.2.2 g m a0 = some r0 → zCTX l yX3_sum cX3_sum 3 (some (.object "QuiverKin$Sum")) fR lR g m [va_rf a0] (fun x : Option Nat => some (va_rf x)) r0) (a0 : Option Nat) (r0 : ((Option Nat) × zGd × zMm) ⊕ (Nat × zGd × zMm)) (h : q_X3_choice rec g m a0 = some r0) : zCTX l yX3_choice cX3_choice 4 (some (.object "QuiverKin$Sum")) (9 + fR) (194 + lR) g m [va_rf a0] (fun x : Option Nat => some (va_rf x)) r0 := by
  unfold zCTX
  refine zXT.of (own := "QuiverKin$Tokens") (mn := "choice") (by decide +kernel) rfl rfl (zla_r zla_0) (zls_r zls_0) (by decide) (fun X hxl hxg hxf hxt hxr hxn => ?_)
  have Kret : ∀ (x : Option Nat) (g1 : zGd) (m1 : zMm), .inl (x, g1, m1) = r0 → zRe X g1 m1 (some (va_rf x)) := by
    intro x g1 m1 e; cases e; exact ⟨hxf, hxr, hxn⟩
  have Kthr : ∀ (q : Nat) (g1 : zGd) (m1 : zMm), .inr (q, g1, m1) = r0 → zRt X g1 m1 q := by
    intro q g1 m1 e; cases e; exact ⟨hxf, hxr, hxn⟩
  subst hxl
  show zG X cX3_choice 4 "QuiverKin$Tokens" "choice" (9 + fR) (194 + lR) 0 [(0, va_rf a0)] [] g m
  unfold q_X3_choice at h
  refine g_aload_n dX3_choice_0 0 rfl ?_
  refine g_xVn [] (fun r0 e0 => ok_X3_opens (xl X) g m a0 r0 e0) zc3 (by decide) (lw_V q591 q593 qs11 q127 q594) rfl hy_X3_opens rfl ⟨by omega, by omega⟩ rfl zc_0 (by decide) dX3_choice_1 h (fun _ g1 m2 h => ?_) (fun q3 g4 m5 hk6 h => ?_)
  rotate_left 1
  · refine g_out ?_ hk6
    have e := Option.some.inj h
    exact Kthr _ _ _ e
  refine g_aload_n dX3_choice_4 0 rfl ?_
  refine g_xVv (rv := fun x : Option Nat => va_rf x) [] (fun r0 e0 => hrec3 g1 m2 a0 r0 e0) zc3 (by decide) (lw_V q595 q597 qs12 q127 q598) rfl hy_X3_either rfl ⟨by omega, by omega⟩ rfl zc_0 (by decide) dX3_choice_5 h (fun r6 g7 m8 h => ?_) (fun q9 g10 m11 hk6 h => ?_)
  rotate_left 1
  · refine g_out ?_ hk6
    have e := Option.some.inj h
    exact Kthr _ _ _ e
  refine g_astore_n [(1, va_rf r6), (0, va_rf a0)] dX3_choice_8 (by decide) (zf_r zf_0) rfl ?_
  refine g_aload_n dX3_choice_9 1 rfl ?_
  refine g_sipush (v := (214 : Int32)) dX3_choice_10 (by decide) ?_
  refine g_xVn [.int (214 : Int32)] (fun r0 e0 => ok_X3_want (xl X) g7 m8 a0 (214 : Int32) r0 e0) zc3 (by decide) (lw_V q727 q729 qs18 q127 q730) rfl hy_X3_want rfl ⟨by omega, by omega⟩ rfl zc_0 (by decide) dX3_choice_13 h (fun _ g12 m13 h => ?_) (fun q14 g15 m16 hk6 h => ?_)
  rotate_left 1
  · refine g_out ?_ hk6
    have e := Option.some.inj h
    exact Kthr _ _ _ e
  refine g_aload_n dX3_choice_16 1 rfl ?_
  refine g_xVv (rv := fun x : Option Nat => va_rf x) [] (fun r0 e0 => hrec7 g12 m13 a0 r0 e0) zc3 (by decide) (lw_V q556 q558 qs6 q127 q559) rfl hy_X3_sum rfl ⟨by omega, by omega⟩ rfl zc_0 (by decide) dX3_choice_17 h (fun r17 g18 m19 h => ?_) (fun q20 g21 m22 hk6 h => ?_)
  rotate_left 1
  · refine g_out ?_ hk6
    have e := Option.some.inj h
    exact Kthr _ _ _ e
  refine g_astore_n [(2, va_rf r17), (1, va_rf r6), (0, va_rf a0)] dX3_choice_20 (by decide) (zf_r (zf_r zf_0)) rfl ?_
  refine g_aload_n dX3_choice_21 2 rfl ?_
  refine g_sipush (v := (215 : Int32)) dX3_choice_22 (by decide) ?_
  refine g_xVn [.int (215 : Int32)] (fun r0 e0 => ok_X3_want (xl X) g18 m19 a0 (215 : Int32) r0 e0) zc3 (by decide) (lw_V q727 q729 qs18 q127 q730) rfl hy_X3_want rfl ⟨by omega, by omega⟩ rfl zc_0 (by decide) dX3_choice_25 h (fun _ g23 m24 h => ?_) (fun q25 g26 m27 hk6 h => ?_)
  rotate_left 1
  · refine g_out ?_ hk6
    have e := Option.some.inj h
    exact Kthr _ _ _ e
  refine g_aload_n dX3_choice_28 2 rfl ?_
  refine g_xVv (rv := fun x : Option Nat => va_rf x) [] (fun r0 e0 => hrec7 g23 m24 a0 r0 e0) zc3 (by decide) (lw_V q556 q558 qs6 q127 q559) rfl hy_X3_sum rfl ⟨by omega, by omega⟩ rfl zc_0 (by decide) dX3_choice_29 h (fun r28 g29 m30 h => ?_) (fun q31 g32 m33 hk6 h => ?_)
  rotate_left 1
  · refine g_out ?_ hk6
    have e := Option.some.inj h
    exact Kthr _ _ _ e
  refine g_astore_n [(3, va_rf r28), (2, va_rf r17), (1, va_rf r6), (0, va_rf a0)] dX3_choice_32 (by decide) (zf_r (zf_r (zf_r zf_0))) rfl ?_
  refine g_aload_n dX3_choice_33 3 rfl ?_
  refine g_sipush (v := (216 : Int32)) dX3_choice_34 (by decide) ?_
  refine g_xVn [.int (216 : Int32)] (fun r0 e0 => ok_X3_want (xl X) g29 m30 a0 (216 : Int32) r0 e0) zc3 (by decide) (lw_V q727 q729 qs18 q127 q730) rfl hy_X3_want rfl ⟨by omega, by omega⟩ rfl zc_0 (by decide) dX3_choice_37 h (fun _ g34 m35 h => ?_) (fun q36 g37 m38 hk6 h => ?_)
  rotate_left 1
  · refine g_out ?_ hk6
    have e := Option.some.inj h
    exact Kthr _ _ _ e
  refine g_aload_n dX3_choice_40 3 rfl ?_
  refine g_dup dX3_choice_41 (zcat_r _) ?_
  refine gf_i zfd_3_6 q348  (fun _ h9 => h9) dX3_choice_42 h (fun v39 h => ?_)
  refine g_iconst (v := (1 : Int32)) dX3_choice_45 (by decide) ?_
  refine g_isub dX3_choice_46 ?_
  refine gp_i zpd_3_6 q348 (fun _ h9 => h9) dX3_choice_47 h (fun m40 h => ?_)
  refine gn_new znd_11 q731 dX3_choice_50 h (fun g41 m42 h => ?_)
  refine g_letr h (fun r43 h => ?_)
  refine g_dup dX3_choice_53 (zcat_r _) ?_
  refine g_aload_n dX3_choice_54 2 rfl ?_
  refine g_aload_n dX3_choice_55 1 rfl ?_
  refine g_aload_n dX3_choice_56 0 rfl ?_
  obtain ⟨hs, h⟩ := zob_e h
  refine g_cINMn [va_rf r6, va_rf r17, va_rf r28] (fun m0 e0 => ok_X11_init (xl X) g41 m42 r43 r6 r17 r28 m0 e0) (lw_meth q735) q149 q733 q734 rfl hy_X11_init rfl ⟨by omega, by omega⟩ rfl (zc_r zc_0) (by decide) hs dX3_choice_57 h (fun m44 h => ?_)
  refine g_aret dX3_choice_60 hxt (by first | exact Or.inl ⟨_, rfl⟩ | exact Or.inr ⟨_, rfl⟩) ?_
  have e := Option.some.inj h
  exact Kret _ _ _ e
def q_X3_one (rec : (zGd → zMm → Option Nat → Option (((Option Nat) × zGd × zMm) ⊕ (Nat × zGd × zMm))) × (zGd → zMm → Option Nat → Option (((Option Nat) × zGd × zMm) ⊕ (Nat × zGd × zMm))) × (zGd → zMm → Option Nat → Option (((Option Nat) × zGd × zMm) ⊕ (Nat × zGd × zMm))) × (zGd → zMm → Option Nat → Option (((Option Nat) × zGd × zMm) ⊕ (Nat × zGd × zMm))) × (zGd → zMm → Option Nat → Option (((Option Nat) × zGd × zMm) ⊕ (Nat × zGd × zMm))) × (zGd → zMm → Option Nat → Option (((Option Nat) × zGd × zMm) ⊕ (Nat × zGd × zMm))) × (zGd → zMm → Option Nat → Option (((Option Nat) × zGd × zMm) ⊕ (Nat × zGd × zMm)))) (g : zGd) (m : zMm) (a0 : Option Nat) : Option (((Option Nat) × zGd × zMm) ⊕ (Nat × zGd × zMm)) :=
(zgi g m 3 4 a0).bind fun v1 =>
if v1 = (300 : Int32) then (zlt (znewo g m 7) fun (g76, m77) =>
zlt (some (zZ g)) fun r78 =>
zXd g76 3 a0 (f_X3_number g76 m77 a0 (0 : Int32) (9999 : Int32)) (fun (q82, g83, m84) => some (.inr (q82, g83, m84))) fun (v79, g80, m81) =>
zob r78 ((f_X7_init g80 m81 r78 v79).bind fun m85 =>
some (.inl (r78, g80, m85))))
else ((zgi g m 3 4 a0).bind fun v2 =>
if v2 = (213 : Int32) then (zXd g 3 a0 (rec.2.2.2.1 g m a0) (fun (q73, g74, m75) => some (.inr (q73, g74, m75))) fun (r70, g71, m72) =>
some (.inl (r70, g71, m72)))
else ((zrc g 3 a0 (f_X3_nameNow g m a0)).bind fun v3 =>
if v3 = (-1 : Int32) then ((zgi g m 3 4 a0).bind fun v4 =>
zEx (σ := Option Nat × zGd × zMm) (if v4 = (40 : Int32) then (zXd g 3 a0 (f_X3_opens g m a0) (fun (q43, g44, m45) => some (.inl (.inr (q43, g44, m45)))) fun (_, g41, m42) =>
zXd g41 3 a0 (rec.2.2.2.2.2.2 g41 m42 a0) (fun (q49, g50, m51) => some (.inl (.inr (q49, g50, m51)))) fun (r46, g47, m48) =>
zXd g47 3 a0 (f_X3_want g47 m48 a0 (41 : Int32)) (fun (q54, g55, m56) => some (.inl (.inr (q54, g55, m56)))) fun (_, g52, m53) =>
some (.inr (r46, g52, m53)))
else ((zgi g m 3 4 a0).bind fun v9 =>
zEx (σ := Unit) (if v9 = (45 : Int32) then (some (.inr ()))
else ((zgi g m 3 4 a0).bind fun v11 =>
if v11 = (211 : Int32) then (some (.inr ()))
else ((zgi g m 3 4 a0).bind fun v12 =>
if v12 = (212 : Int32) then (some (.inr ()))
else ((zrc g 3 a0 (f_X3_wrong g m a0 (1 : Int32))).bind fun (r13, g14, m15) =>
(zthr g14 r13).bind fun q16 =>
some (.inl (.inl (.inr (q16, g14, m15)))))))) fun _ =>
(zgi g m 3 4 a0).bind fun v17 =>
zXd g 3 a0 (f_X3_opens g m a0) (fun (q20, g21, m22) => some (.inl (.inr (q20, g21, m22)))) fun (_, g18, m19) =>
zXd g18 3 a0 (rec.2.2.2.2.1 g18 m19 a0) (fun (q26, g27, m28) => some (.inl (.inr (q26, g27, m28)))) fun (r23, g24, m25) =>
if v17 = (211 : Int32) then (zlt (znewo g24 m25 13) fun (g37, m38) =>
zlt (some (zZ g24)) fun r39 =>
zob r39 ((f_X13_init g37 m38 r39 r23).bind fun m40 =>
some (.inr (r39, g37, m40))))
else (if v17 = (212 : Int32) then (zlt (znewo g24 m25 14) fun (g33, m34) =>
zlt (some (zZ g24)) fun r35 =>
zob r35 ((f_X14_init g33 m34 r35 r23).bind fun m36 =>
some (.inr (r35, g33, m36))))
else (zlt (znewo g24 m25 15) fun (g29, m30) =>
zlt (some (zZ g24)) fun r31 =>
zob r31 ((f_X15_init g29 m30 r31 r23).bind fun m32 =>
some (.inr (r31, g29, m32))))))) fun (r6, g7, m8) =>
(zgi g7 m8 3 6 a0).bind fun v57 =>
(zpi g7 m8 3 6 a0 (v57 - (1 : Int32))).bind fun m58 =>
some (.inl (r6, g7, m58)))
else ((zrc g 3 a0 (f_X3_mayName g m a0 v3)).bind fun v59 =>
if v59 = 0 then ((zrc g 3 a0 (f_X3_wrong g m a0 (5 : Int32))).bind fun (r66, g67, m68) =>
(zthr g67 r66).bind fun q69 =>
some (.inr (q69, g67, m68)))
else ((zrc g 3 a0 (f_X3_next g m a0)).bind fun (g60, m61) =>
zlt (znewo g60 m61 12) fun (g62, m63) =>
zlt (some (zZ g60)) fun r64 =>
zob r64 ((f_X12_init g62 m63 r64 v3).bind fun m65 =>
some (.inl (r64, g62, m65)))))))
set_option maxHeartbeats 4000000 in
theorem qk_X3_one (l : Launch) (g : zGd) (m : zMm) (fR lR : Nat) (rec : (zGd → zMm → Option Nat → Option (((Option Nat) × zGd × zMm) ⊕ (Nat × zGd × zMm))) × (zGd → zMm → Option Nat → Option (((Option Nat) × zGd × zMm) ⊕ (Nat × zGd × zMm))) × (zGd → zMm → Option Nat → Option (((Option Nat) × zGd × zMm) ⊕ (Nat × zGd × zMm))) × (zGd → zMm → Option Nat → Option (((Option Nat) × zGd × zMm) ⊕ (Nat × zGd × zMm))) × (zGd → zMm → Option Nat → Option (((Option Nat) × zGd × zMm) ⊕ (Nat × zGd × zMm))) × (zGd → zMm → Option Nat → Option (((Option Nat) × zGd × zMm) ⊕ (Nat × zGd × zMm))) × (zGd → zMm → Option Nat → Option (((Option Nat) × zGd × zMm) ⊕ (Nat × zGd × zMm)))) (hrec1 : ∀ (g : zGd) (m : zMm) (a0 : Option Nat) (r0 : ((Option Nat) × zGd × zMm) ⊕ (Nat × zGd × zMm)), rec.1 g m a0 = some r0 → zCTX l yX3_ask cX3_ask 3 (some (.object "QuiverKin$Asked")) fR lR g m [va_rf a0] (fun x : Option Nat => some (va_rf x)) r0) (hrec2 : ∀ (g : zGd) (m : zMm) (a0 : Option Nat) (r0 : ((Option Nat) × zGd × zMm) ⊕ (Nat × zGd × zMm)), rec.2.1 g m a0 = some r0 → zCTX l yX3_both cX3_both 2 (some (.object "QuiverKin$Asked")) fR lR g m [va_rf a0] (fun x : Option Nat => some (va_rf x)) r0) (hrec3 : ∀ (g : zGd) (m : zMm) (a0 : Option Nat) (r0 : ((Option Nat) × zGd × zMm) ⊕ (Nat × zGd × zMm)), rec.2.2.1 g m a0 = some r0 → zCTX l yX3_either cX3_either 2 (some (.object "QuiverKin$Asked")) fR lR g m [va_rf a0] (fun x : Option Nat => some (va_rf x)) r0) (hrec4 : ∀ (g : zGd) (m : zMm) (a0 : Option Nat) (r0 : ((Option Nat) × zGd × zMm) ⊕ (Nat × zGd × zMm)), rec.2.2.2.1 g m a0 = some r0 → zCTX l yX3_choice cX3_choice 4 (some (.object "QuiverKin$Sum")) fR lR g m [va_rf a0] (fun x : Option Nat => some (va_rf x)) r0) (hrec5 : ∀ (g : zGd) (m : zMm) (a0 : Option Nat) (r0 : ((Option Nat) × zGd × zMm) ⊕ (Nat × zGd × zMm)), rec.2.2.2.2.1 g m a0 = some r0 → zCTX l yX3_one cX3_one 5 (some (.object "QuiverKin$Sum")) fR lR g m [va_rf a0] (fun x : Option Nat => some (va_rf x)) r0) (hrec6 : ∀ (g : zGd) (m : zMm) (a0 : Option Nat) (r0 : ((Option Nat) × zGd × zMm) ⊕ (Nat × zGd × zMm)), rec.2.2.2.2.2.1 g m a0 = some r0 → zCTX l yX3_product cX3_product 3 (some (.object "QuiverKin$Sum")) fR lR g m [va_rf a0] (fun x : Option Nat => some (va_rf x)) r0) (hrec7 : ∀ (g : zGd) (m : zMm) (a0 : Option Nat) (r0 : ((Option Nat) × zGd × zMm) ⊕ (Nat × zGd × zMm)), rec.2.2.2.2.2.2 g m a0 = some r0 → zCTX l yX3_sum cX3_sum 3 (some (.object "QuiverKin$Sum")) fR lR g m [va_rf a0] (fun x : Option Nat => some (va_rf x)) r0) (a0 : Option Nat) (r0 : ((Option Nat) × zGd × zMm) ⊕ (Nat × zGd × zMm)) (h : q_X3_one rec g m a0 = some r0) : zCTX l yX3_one cX3_one 5 (some (.object "QuiverKin$Sum")) (9 + fR) (194 + lR) g m [va_rf a0] (fun x : Option Nat => some (va_rf x)) r0 := by
  unfold zCTX
  refine zXT.of (own := "QuiverKin$Tokens") (mn := "one") (by decide +kernel) rfl rfl (zla_r zla_0) (zls_r zls_0) (by decide) (fun X hxl hxg hxf hxt hxr hxn => ?_)
  have Kret : ∀ (x : Option Nat) (g1 : zGd) (m1 : zMm), .inl (x, g1, m1) = r0 → zRe X g1 m1 (some (va_rf x)) := by
    intro x g1 m1 e; cases e; exact ⟨hxf, hxr, hxn⟩
  have Kthr : ∀ (q : Nat) (g1 : zGd) (m1 : zMm), .inr (q, g1, m1) = r0 → zRt X g1 m1 q := by
    intro q g1 m1 e; cases e; exact ⟨hxf, hxr, hxn⟩
  subst hxl
  show zG X cX3_one 5 "QuiverKin$Tokens" "one" (9 + fR) (194 + lR) 0 [(0, va_rf a0)] [] g m
  unfold q_X3_one at h
  refine g_aload_n dX3_one_0 0 rfl ?_
  refine gf_i zfd_3_4 q346  (fun _ h9 => h9) dX3_one_1 h (fun v1 h => ?_)
  refine g_sipush (v := (300 : Int32)) dX3_one_4 (by decide) ?_
  refine g_icmp_ne 26 dX3_one_7 (by decide) (fun c => ?_) (fun c => ?_)
  · have h := zite_n h c
    refine g_aload_n dX3_one_26 0 rfl ?_
    refine gf_i zfd_3_4 q346  (fun _ h9 => h9) dX3_one_27 h (fun v2 h => ?_)
    refine g_sipush (v := (213 : Int32)) dX3_one_30 (by decide) ?_
    refine g_icmp_ne 41 dX3_one_33 (by decide) (fun c => ?_) (fun c => ?_)
    · have h := zite_n h c
      refine g_aload_n dX3_one_41 0 rfl ?_
      refine g_cVRv (rv := fun x : Int32 => Value.int x) [] (fun x0 e0 => ok_X3_nameNow (xl X) g m a0 x0 e0) zc3 (by decide) (lw_V q747 q749 qs19 q127 q750) rfl hy_X3_nameNow rfl ⟨by omega, by omega⟩ rfl zc_0 (by decide) dX3_one_42 h (fun v3 h => ?_)
      refine g_istore_n [(1, .int v3), (0, va_rf a0)] dX3_one_45 (by decide) (zf_r zf_0) rfl ?_
      refine g_iload_n dX3_one_46 0 rfl ?_
      refine g_iconst (v := (-1 : Int32)) dX3_one_47 (by decide) ?_
      refine g_icmp_eq 78 dX3_one_48 (by decide) (fun c => ?_) (fun c => ?_)
      · have h := zite_p h c
        refine g_aload_n dX3_one_78 1 rfl ?_
        refine gf_i zfd_3_4 q346  (fun _ h9 => h9) dX3_one_79 h (fun v4 h => ?_)
        refine g_bipush (v := (40 : Int32)) dX3_one_82 (by decide) ?_
        obtain ⟨o5, h1, hl5, hr5⟩ := zEx_e h
        have K5 : ∀ (r6 : Option Nat) (g7 : zGd) (m8 : zMm), o5 = .inr (r6, g7, m8) → zG X cX3_one 5 "QuiverKin$Tokens" "one" (9 + fR) (194 + lR) 206 [(0, va_rf a0), (2, va_rf r6)] [] g7 m8 := by
          intro r6 g7 m8 e
          have h := hr5 _ e
          refine g_aload_n dX3_one_206 0 rfl ?_
          refine g_dup dX3_one_207 (zcat_r _) ?_
          refine gf_i zfd_3_6 q348  (fun _ h9 => h9) dX3_one_208 h (fun v57 h => ?_)
          refine g_iconst (v := (1 : Int32)) dX3_one_211 (by decide) ?_
          refine g_isub dX3_one_212 ?_
          refine gp_i zpd_3_6 q348 (fun _ h9 => h9) dX3_one_213 h (fun m58 h => ?_)
          refine g_aload_n dX3_one_216 1 rfl ?_
          refine g_aret dX3_one_217 hxt (by first | exact Or.inl ⟨_, rfl⟩ | exact Or.inr ⟨_, rfl⟩) ?_
          have e := Option.some.inj h
          exact Kret _ _ _ e
        have h := h1
        refine g_icmp_ne 105 dX3_one_84 (by decide) (fun c => ?_) (fun c => ?_)
        · have h := zite_n h c
          refine g_aload_n dX3_one_105 1 rfl ?_
          refine gf_i zfd_3_4 q346  (fun _ h9 => h9) dX3_one_106 h (fun v9 h => ?_)
          refine g_bipush (v := (45 : Int32)) dX3_one_109 (by decide) ?_
          obtain ⟨o10, h1, hl10, hr10⟩ := zEx_e h
          have K10 : o10 = .inr () → zG X cX3_one 5 "QuiverKin$Tokens" "one" (9 + fR) (194 + lR) 134 [(0, va_rf a0)] [] g m := by
            intro e
            have h := hr10 _ e
            refine g_aload_n dX3_one_134 0 rfl ?_
            refine gf_i zfd_3_4 q346  (fun _ h9 => h9) dX3_one_135 h (fun v17 h => ?_)
            refine g_istore_n [(3, .int v17), (0, va_rf a0)] dX3_one_138 (by decide) (zf_r zf_0) rfl ?_
            refine g_aload_n dX3_one_139 1 rfl ?_
            refine g_xVn [] (fun r0 e0 => ok_X3_opens (xl X) g m a0 r0 e0) zc3 (by decide) (lw_V q591 q593 qs11 q127 q594) rfl hy_X3_opens rfl ⟨by omega, by omega⟩ rfl zc_0 (by decide) dX3_one_140 h (fun _ g18 m19 h => ?_) (fun q20 g21 m22 hk6 h => ?_)
            rotate_left 1
            · refine g_out ?_ hk6
              have e := Option.some.inj h
              have e := hl5 _ e.symm
              exact Kthr _ _ _ e
            refine g_aload_n dX3_one_143 1 rfl ?_
            refine g_xVv (rv := fun x : Option Nat => va_rf x) [] (fun r0 e0 => hrec5 g18 m19 a0 r0 e0) zc3 (by decide) (lw_V q566 q568 qs8 q127 q569) rfl hy_X3_one rfl ⟨by omega, by omega⟩ rfl zc_0 (by decide) dX3_one_144 h (fun r23 g24 m25 h => ?_) (fun q26 g27 m28 hk6 h => ?_)
            rotate_left 1
            · refine g_out ?_ hk6
              have e := Option.some.inj h
              have e := hl5 _ e.symm
              exact Kthr _ _ _ e
            refine g_astore [(4, va_rf r23), (3, .int v17), (0, va_rf a0)] dX3_one_147 (by decide) (zf_i (zf_r zf_0)) rfl ?_
            refine g_iload_n dX3_one_149 1 rfl ?_
            refine g_sipush (v := (211 : Int32)) dX3_one_150 (by decide) ?_
            refine g_icmp_ne 168 dX3_one_153 (by decide) (fun c => ?_) (fun c => ?_)
            · have h := zite_n h c
              refine g_iload_n dX3_one_168 1 rfl ?_
              refine g_sipush (v := (212 : Int32)) dX3_one_169 (by decide) ?_
              refine g_icmp_ne 187 dX3_one_172 (by decide) (fun c => ?_) (fun c => ?_)
              · have h := zite_n h c
                refine gn_new znd_15 q787 dX3_one_187 h (fun g29 m30 h => ?_)
                refine g_letr h (fun r31 h => ?_)
                refine g_dup dX3_one_190 (zcat_r _) ?_
                refine g_aload dX3_one_191 0 rfl ?_
                obtain ⟨hs, h⟩ := zob_e h
                refine g_cINMn [va_rf r23] (fun m0 e0 => ok_X15_init (xl X) g29 m30 r31 r23 m0 e0) (lw_meth q791) q153 q789 q790 rfl hy_X15_init rfl ⟨by omega, by omega⟩ rfl (zc_r zc_0) (by decide) hs dX3_one_193 h (fun m32 h => ?_)
                refine g_astore_n [(2, va_rf r31), (4, va_rf r23), (3, .int v17), (0, va_rf a0)] dX3_one_196 (by decide) (zf_r (zf_i (zf_r zf_0))) rfl ?_
                refine g_goto 206 dX3_one_197 (by decide) ?_
                refine zG.sub [3, 0] rfl ?_
                have e := Option.some.inj h
                exact K5 _ _ _ e.symm
              · have h := zite_p h c
                refine gn_new znd_14 q777 dX3_one_175 h (fun g33 m34 h => ?_)
                refine g_letr h (fun r35 h => ?_)
                refine g_dup dX3_one_178 (zcat_r _) ?_
                refine g_aload dX3_one_179 0 rfl ?_
                obtain ⟨hs, h⟩ := zob_e h
                refine g_cINMn [va_rf r23] (fun m0 e0 => ok_X14_init (xl X) g33 m34 r35 r23 m0 e0) (lw_meth q781) q152 q779 q780 rfl hy_X14_init rfl ⟨by omega, by omega⟩ rfl (zc_r zc_0) (by decide) hs dX3_one_181 h (fun m36 h => ?_)
                refine g_goto 196 dX3_one_184 (by decide) ?_
                refine g_astore_n [(2, va_rf r35), (4, va_rf r23), (3, .int v17), (0, va_rf a0)] dX3_one_196 (by decide) (zf_r (zf_i (zf_r zf_0))) rfl ?_
                refine g_goto 206 dX3_one_197 (by decide) ?_
                refine zG.sub [3, 0] rfl ?_
                have e := Option.some.inj h
                exact K5 _ _ _ e.symm
            · have h := zite_p h c
              refine gn_new znd_13 q767 dX3_one_156 h (fun g37 m38 h => ?_)
              refine g_letr h (fun r39 h => ?_)
              refine g_dup dX3_one_159 (zcat_r _) ?_
              refine g_aload dX3_one_160 0 rfl ?_
              obtain ⟨hs, h⟩ := zob_e h
              refine g_cINMn [va_rf r23] (fun m0 e0 => ok_X13_init (xl X) g37 m38 r39 r23 m0 e0) (lw_meth q771) q151 q769 q770 rfl hy_X13_init rfl ⟨by omega, by omega⟩ rfl (zc_r zc_0) (by decide) hs dX3_one_162 h (fun m40 h => ?_)
              refine g_goto 196 dX3_one_165 (by decide) ?_
              refine g_astore_n [(2, va_rf r39), (4, va_rf r23), (3, .int v17), (0, va_rf a0)] dX3_one_196 (by decide) (zf_r (zf_i (zf_r zf_0))) rfl ?_
              refine g_goto 206 dX3_one_197 (by decide) ?_
              refine zG.sub [3, 0] rfl ?_
              have e := Option.some.inj h
              exact K5 _ _ _ e.symm
          have h := h1
          refine g_icmp_eq 134 dX3_one_111 (by decide) (fun c => ?_) (fun c => ?_)
          · have h := zite_p h c
            refine zG.sub [1] rfl ?_
            have e := Option.some.inj h
            exact K10 e.symm
          · have h := zite_n h c
            refine g_aload_n dX3_one_114 1 rfl ?_
            refine gf_i zfd_3_4 q346  (fun _ h9 => h9) dX3_one_115 h (fun v11 h => ?_)
            refine g_sipush (v := (211 : Int32)) dX3_one_118 (by decide) ?_
            refine g_icmp_eq 134 dX3_one_121 (by decide) (fun c => ?_) (fun c => ?_)
            · have h := zite_p h c
              refine zG.sub [1] rfl ?_
              have e := Option.some.inj h
              exact K10 e.symm
            · have h := zite_n h c
              refine g_aload_n dX3_one_124 1 rfl ?_
              refine gf_i zfd_3_4 q346  (fun _ h9 => h9) dX3_one_125 h (fun v12 h => ?_)
              refine g_sipush (v := (212 : Int32)) dX3_one_128 (by decide) ?_
              refine g_icmp_ne 200 dX3_one_131 (by decide) (fun c => ?_) (fun c => ?_)
              · have h := zite_n h c
                refine g_aload_n dX3_one_200 1 rfl ?_
                refine g_iconst (v := (1 : Int32)) dX3_one_201 (by decide) ?_
                refine g_cVAv (rv := fun x : Option Nat => va_rf x) [.int (1 : Int32)] (fun x0 g0 m0 e0 => ok_X3_wrong (xl X) g m a0 (1 : Int32) x0 g0 m0 e0) zc3 (by decide) (lw_V q488 q490 qs4 q127 q491) rfl hy_X3_wrong rfl ⟨by omega, by omega⟩ rfl zc_0 (by decide) dX3_one_202 h (fun r13 g14 m15 h => ?_)
                refine g_athrow dX3_one_205 h (fun q16 hk6 h => ?_)
                refine g_out ?_ hk6
                have e := Option.some.inj h
                have e := hl10 _ e.symm
                have e := hl5 _ e.symm
                exact Kthr _ _ _ e
              · have h := zite_p h c
                refine zG.sub [1] rfl ?_
                have e := Option.some.inj h
                exact K10 e.symm
        · have h := zite_p h c
          refine g_aload_n dX3_one_87 1 rfl ?_
          refine g_xVn [] (fun r0 e0 => ok_X3_opens (xl X) g m a0 r0 e0) zc3 (by decide) (lw_V q591 q593 qs11 q127 q594) rfl hy_X3_opens rfl ⟨by omega, by omega⟩ rfl zc_0 (by decide) dX3_one_88 h (fun _ g41 m42 h => ?_) (fun q43 g44 m45 hk6 h => ?_)
          rotate_left 1
          · refine g_out ?_ hk6
            have e := Option.some.inj h
            have e := hl5 _ e.symm
            exact Kthr _ _ _ e
          refine g_aload_n dX3_one_91 1 rfl ?_
          refine g_xVv (rv := fun x : Option Nat => va_rf x) [] (fun r0 e0 => hrec7 g41 m42 a0 r0 e0) zc3 (by decide) (lw_V q556 q558 qs6 q127 q559) rfl hy_X3_sum rfl ⟨by omega, by omega⟩ rfl zc_0 (by decide) dX3_one_92 h (fun r46 g47 m48 h => ?_) (fun q49 g50 m51 hk6 h => ?_)
          rotate_left 1
          · refine g_out ?_ hk6
            have e := Option.some.inj h
            have e := hl5 _ e.symm
            exact Kthr _ _ _ e
          refine g_astore_n [(2, va_rf r46), (1, .int v3), (0, va_rf a0)] dX3_one_95 (by decide) (zf_i (zf_r zf_0)) rfl ?_
          refine g_aload_n dX3_one_96 2 rfl ?_
          refine g_bipush (v := (41 : Int32)) dX3_one_97 (by decide) ?_
          refine g_xVn [.int (41 : Int32)] (fun r0 e0 => ok_X3_want (xl X) g47 m48 a0 (41 : Int32) r0 e0) zc3 (by decide) (lw_V q727 q729 qs18 q127 q730) rfl hy_X3_want rfl ⟨by omega, by omega⟩ rfl zc_0 (by decide) dX3_one_99 h (fun _ g52 m53 h => ?_) (fun q54 g55 m56 hk6 h => ?_)
          rotate_left 1
          · refine g_out ?_ hk6
            have e := Option.some.inj h
            have e := hl5 _ e.symm
            exact Kthr _ _ _ e
          refine g_goto 206 dX3_one_102 (by decide) ?_
          refine zG.sub [2, 0] rfl ?_
          have e := Option.some.inj h
          exact K5 _ _ _ e.symm
      · have h := zite_n h c
        refine g_aload_n dX3_one_51 1 rfl ?_
        refine g_iload_n dX3_one_52 0 rfl ?_
        refine g_cVRv (rv := fun x : Int32 => Value.int x) [.int v3] (fun x0 e0 => ok_X3_mayName (xl X) g m a0 v3 x0 e0) zc3 (by decide) (lw_V q753 q755 qs20 q127 q756) rfl hy_X3_mayName rfl ⟨by omega, by omega⟩ rfl zc_0 (by decide) dX3_one_53 h (fun v59 h => ?_)
        refine g_if_ne 65 dX3_one_56 (by decide) (fun c => ?_) (fun c => ?_)
        · have h := zite_n h c
          refine g_aload_n dX3_one_65 1 rfl ?_
          refine g_cVAn [] (fun g0 m0 e0 => ok_X3_next (xl X) g m a0 g0 m0 e0) zc3 (by decide) (lw_V q419 q421 qs2 q127 q422) rfl hy_X3_next rfl ⟨by omega, by omega⟩ rfl zc_0 (by decide) dX3_one_66 h (fun g60 m61 h => ?_)
          refine gn_new znd_12 q757 dX3_one_69 h (fun g62 m63 h => ?_)
          refine g_letr h (fun r64 h => ?_)
          refine g_dup dX3_one_72 (zcat_r _) ?_
          refine g_iload_n dX3_one_73 0 rfl ?_
          obtain ⟨hs, h⟩ := zob_e h
          refine g_cINMn [.int v3] (fun m0 e0 => ok_X12_init (xl X) g62 m63 r64 v3 m0 e0) (lw_meth q761) q150 q759 q760 rfl hy_X12_init rfl ⟨by omega, by omega⟩ rfl (zc_r zc_0) (by decide) hs dX3_one_74 h (fun m65 h => ?_)
          refine g_aret dX3_one_77 hxt (by first | exact Or.inl ⟨_, rfl⟩ | exact Or.inr ⟨_, rfl⟩) ?_
          have e := Option.some.inj h
          exact Kret _ _ _ e
        · have h := zite_p h c
          refine g_aload_n dX3_one_59 1 rfl ?_
          refine g_iconst (v := (5 : Int32)) dX3_one_60 (by decide) ?_
          refine g_cVAv (rv := fun x : Option Nat => va_rf x) [.int (5 : Int32)] (fun x0 g0 m0 e0 => ok_X3_wrong (xl X) g m a0 (5 : Int32) x0 g0 m0 e0) zc3 (by decide) (lw_V q488 q490 qs4 q127 q491) rfl hy_X3_wrong rfl ⟨by omega, by omega⟩ rfl zc_0 (by decide) dX3_one_61 h (fun r66 g67 m68 h => ?_)
          refine g_athrow dX3_one_64 h (fun q69 hk6 h => ?_)
          refine g_out ?_ hk6
          have e := Option.some.inj h
          exact Kthr _ _ _ e
    · have h := zite_p h c
      refine g_aload_n dX3_one_36 0 rfl ?_
      refine g_xVv (rv := fun x : Option Nat => va_rf x) [] (fun r0 e0 => hrec4 g m a0 r0 e0) zc3 (by decide) (lw_V q587 q589 qs10 q127 q590) rfl hy_X3_choice rfl ⟨by omega, by omega⟩ rfl zc_0 (by decide) dX3_one_37 h (fun r70 g71 m72 h => ?_) (fun q73 g74 m75 hk6 h => ?_)
      rotate_left 1
      · refine g_out ?_ hk6
        have e := Option.some.inj h
        exact Kthr _ _ _ e
      refine g_aret dX3_one_40 hxt (by first | exact Or.inl ⟨_, rfl⟩ | exact Or.inr ⟨_, rfl⟩) ?_
      have e := Option.some.inj h
      exact Kret _ _ _ e
  · have h := zite_p h c
    refine gn_new znd_7 q570 dX3_one_10 h (fun g76 m77 h => ?_)
    refine g_letr h (fun r78 h => ?_)
    refine g_dup dX3_one_13 (zcat_r _) ?_
    refine g_aload_n dX3_one_14 0 rfl ?_
    refine g_iconst (v := (0 : Int32)) dX3_one_15 (by decide) ?_
    refine g_sipush (v := (9999 : Int32)) dX3_one_16 (by decide) ?_
    refine g_xVv (rv := fun x : Int32 => Value.int x) [.int (0 : Int32), .int (9999 : Int32)] (fun r0 e0 => ok_X3_number (xl X) g76 m77 a0 (0 : Int32) (9999 : Int32) r0 e0) zc3 (by decide) (lw_V q572 q574 qs9 q127 q575) rfl hy_X3_number rfl ⟨by omega, by omega⟩ rfl (zc_r (zc_r zc_0)) (by decide) dX3_one_19 h (fun v79 g80 m81 h => ?_) (fun q82 g83 m84 hk6 h => ?_)
    rotate_left 1
    · refine g_out ?_ hk6
      have e := Option.some.inj h
      exact Kthr _ _ _ e
    obtain ⟨hs, h⟩ := zob_e h
    refine g_cINMn [.int v79] (fun m0 e0 => ok_X7_init (xl X) g80 m81 r78 v79 m0 e0) (lw_meth q578) q142 q576 q577 rfl hy_X7_init rfl ⟨by omega, by omega⟩ rfl (zc_r zc_0) (by decide) hs dX3_one_22 h (fun m85 h => ?_)
    refine g_aret dX3_one_25 hxt (by first | exact Or.inl ⟨_, rfl⟩ | exact Or.inr ⟨_, rfl⟩) ?_
    have e := Option.some.inj h
    exact Kret _ _ _ e
def b_X3_product_12 (rec : (zGd → zMm → Option Nat → Option (((Option Nat) × zGd × zMm) ⊕ (Nat × zGd × zMm))) × (zGd → zMm → Option Nat → Option (((Option Nat) × zGd × zMm) ⊕ (Nat × zGd × zMm))) × (zGd → zMm → Option Nat → Option (((Option Nat) × zGd × zMm) ⊕ (Nat × zGd × zMm))) × (zGd → zMm → Option Nat → Option (((Option Nat) × zGd × zMm) ⊕ (Nat × zGd × zMm))) × (zGd → zMm → Option Nat → Option (((Option Nat) × zGd × zMm) ⊕ (Nat × zGd × zMm))) × (zGd → zMm → Option Nat → Option (((Option Nat) × zGd × zMm) ⊕ (Nat × zGd × zMm))) × (zGd → zMm → Option Nat → Option (((Option Nat) × zGd × zMm) ⊕ (Nat × zGd × zMm)))) (a0 : Option Nat) (r3 : Option Nat) : zGd × zMm → Option ((((((Option Nat) × zGd × zMm) ⊕ (Nat × zGd × zMm)) ⊕ (zGd × zMm))) ⊕ (zGd × zMm)) := fun (g16, m17) =>
(zgi g16 m17 3 4 a0).bind fun v18 =>
zEx (σ := Unit) (if v18 = (42 : Int32) then (some (.inr ()))
else ((zgi g16 m17 3 4 a0).bind fun v20 =>
if v20 = (47 : Int32) then (some (.inr ()))
else (some (.inl (.inl (.inr (g16, m17))))))) fun _ =>
(zgi g16 m17 3 4 a0).bind fun v21 =>
(zrc g16 3 a0 (f_X3_next g16 m17 a0)).bind fun (g22, m23) =>
zXd g22 3 a0 (rec.2.2.2.2.1 g22 m23 a0) (fun (q27, g28, m29) => some (.inl (.inl (.inr (q27, g28, m29))))) fun (r24, g25, m26) =>
(zrc g25 6 r3 (f_X6_add g25 m26 r3 v21 r24)).bind fun (g30, m31) =>
some (.inr (g30, m31))
def q_X3_product (rec : (zGd → zMm → Option Nat → Option (((Option Nat) × zGd × zMm) ⊕ (Nat × zGd × zMm))) × (zGd → zMm → Option Nat → Option (((Option Nat) × zGd × zMm) ⊕ (Nat × zGd × zMm))) × (zGd → zMm → Option Nat → Option (((Option Nat) × zGd × zMm) ⊕ (Nat × zGd × zMm))) × (zGd → zMm → Option Nat → Option (((Option Nat) × zGd × zMm) ⊕ (Nat × zGd × zMm))) × (zGd → zMm → Option Nat → Option (((Option Nat) × zGd × zMm) ⊕ (Nat × zGd × zMm))) × (zGd → zMm → Option Nat → Option (((Option Nat) × zGd × zMm) ⊕ (Nat × zGd × zMm))) × (zGd → zMm → Option Nat → Option (((Option Nat) × zGd × zMm) ⊕ (Nat × zGd × zMm)))) (g : zGd) (m : zMm) (a0 : Option Nat) : Option (((Option Nat) × zGd × zMm) ⊕ (Nat × zGd × zMm)) :=
zlt (znewo g m 6) fun (g1, m2) =>
zlt (some (zZ g)) fun r3 =>
zXd g1 3 a0 (rec.2.2.2.2.1 g1 m2 a0) (fun (q7, g8, m9) => some (.inr (q7, g8, m9))) fun (r4, g5, m6) =>
zob r3 ((f_X6_init g5 m6 r3 r4).bind fun (g10, m11) =>
zEx (σ := zGd × zMm) (zLoop (b_X3_product_12 rec a0 r3) zFuel (g10, m11)) fun (g13, m14) =>
(zrc g13 6 r3 (f_X6_itself g13 m14 r3)).bind fun r32 =>
some (.inl (r32, g13, m14)))
set_option maxHeartbeats 4000000 in
theorem qk_X3_product (l : Launch) (g : zGd) (m : zMm) (fR lR : Nat) (rec : (zGd → zMm → Option Nat → Option (((Option Nat) × zGd × zMm) ⊕ (Nat × zGd × zMm))) × (zGd → zMm → Option Nat → Option (((Option Nat) × zGd × zMm) ⊕ (Nat × zGd × zMm))) × (zGd → zMm → Option Nat → Option (((Option Nat) × zGd × zMm) ⊕ (Nat × zGd × zMm))) × (zGd → zMm → Option Nat → Option (((Option Nat) × zGd × zMm) ⊕ (Nat × zGd × zMm))) × (zGd → zMm → Option Nat → Option (((Option Nat) × zGd × zMm) ⊕ (Nat × zGd × zMm))) × (zGd → zMm → Option Nat → Option (((Option Nat) × zGd × zMm) ⊕ (Nat × zGd × zMm))) × (zGd → zMm → Option Nat → Option (((Option Nat) × zGd × zMm) ⊕ (Nat × zGd × zMm)))) (hrec1 : ∀ (g : zGd) (m : zMm) (a0 : Option Nat) (r0 : ((Option Nat) × zGd × zMm) ⊕ (Nat × zGd × zMm)), rec.1 g m a0 = some r0 → zCTX l yX3_ask cX3_ask 3 (some (.object "QuiverKin$Asked")) fR lR g m [va_rf a0] (fun x : Option Nat => some (va_rf x)) r0) (hrec2 : ∀ (g : zGd) (m : zMm) (a0 : Option Nat) (r0 : ((Option Nat) × zGd × zMm) ⊕ (Nat × zGd × zMm)), rec.2.1 g m a0 = some r0 → zCTX l yX3_both cX3_both 2 (some (.object "QuiverKin$Asked")) fR lR g m [va_rf a0] (fun x : Option Nat => some (va_rf x)) r0) (hrec3 : ∀ (g : zGd) (m : zMm) (a0 : Option Nat) (r0 : ((Option Nat) × zGd × zMm) ⊕ (Nat × zGd × zMm)), rec.2.2.1 g m a0 = some r0 → zCTX l yX3_either cX3_either 2 (some (.object "QuiverKin$Asked")) fR lR g m [va_rf a0] (fun x : Option Nat => some (va_rf x)) r0) (hrec4 : ∀ (g : zGd) (m : zMm) (a0 : Option Nat) (r0 : ((Option Nat) × zGd × zMm) ⊕ (Nat × zGd × zMm)), rec.2.2.2.1 g m a0 = some r0 → zCTX l yX3_choice cX3_choice 4 (some (.object "QuiverKin$Sum")) fR lR g m [va_rf a0] (fun x : Option Nat => some (va_rf x)) r0) (hrec5 : ∀ (g : zGd) (m : zMm) (a0 : Option Nat) (r0 : ((Option Nat) × zGd × zMm) ⊕ (Nat × zGd × zMm)), rec.2.2.2.2.1 g m a0 = some r0 → zCTX l yX3_one cX3_one 5 (some (.object "QuiverKin$Sum")) fR lR g m [va_rf a0] (fun x : Option Nat => some (va_rf x)) r0) (hrec6 : ∀ (g : zGd) (m : zMm) (a0 : Option Nat) (r0 : ((Option Nat) × zGd × zMm) ⊕ (Nat × zGd × zMm)), rec.2.2.2.2.2.1 g m a0 = some r0 → zCTX l yX3_product cX3_product 3 (some (.object "QuiverKin$Sum")) fR lR g m [va_rf a0] (fun x : Option Nat => some (va_rf x)) r0) (hrec7 : ∀ (g : zGd) (m : zMm) (a0 : Option Nat) (r0 : ((Option Nat) × zGd × zMm) ⊕ (Nat × zGd × zMm)), rec.2.2.2.2.2.2 g m a0 = some r0 → zCTX l yX3_sum cX3_sum 3 (some (.object "QuiverKin$Sum")) fR lR g m [va_rf a0] (fun x : Option Nat => some (va_rf x)) r0) (a0 : Option Nat) (r0 : ((Option Nat) × zGd × zMm) ⊕ (Nat × zGd × zMm)) (h : q_X3_product rec g m a0 = some r0) : zCTX l yX3_product cX3_product 3 (some (.object "QuiverKin$Sum")) (9 + fR) (194 + lR) g m [va_rf a0] (fun x : Option Nat => some (va_rf x)) r0 := by
  unfold zCTX
  refine zXT.of (own := "QuiverKin$Tokens") (mn := "product") (by decide +kernel) rfl rfl (zla_r zla_0) (zls_r zls_0) (by decide) (fun X hxl hxg hxf hxt hxr hxn => ?_)
  have Kret : ∀ (x : Option Nat) (g1 : zGd) (m1 : zMm), .inl (x, g1, m1) = r0 → zRe X g1 m1 (some (va_rf x)) := by
    intro x g1 m1 e; cases e; exact ⟨hxf, hxr, hxn⟩
  have Kthr : ∀ (q : Nat) (g1 : zGd) (m1 : zMm), .inr (q, g1, m1) = r0 → zRt X g1 m1 q := by
    intro q g1 m1 e; cases e; exact ⟨hxf, hxr, hxn⟩
  subst hxl
  show zG X cX3_product 3 "QuiverKin$Tokens" "product" (9 + fR) (194 + lR) 0 [(0, va_rf a0)] [] g m
  unfold q_X3_product at h
  refine gn_new znd_6 q560 dX3_product_0 h (fun g1 m2 h => ?_)
  refine g_letr h (fun r3 h => ?_)
  refine g_dup dX3_product_3 (zcat_r _) ?_
  refine g_aload_n dX3_product_4 0 rfl ?_
  refine g_xVv (rv := fun x : Option Nat => va_rf x) [] (fun r0 e0 => hrec5 g1 m2 a0 r0 e0) zc3 (by decide) (lw_V q566 q568 qs8 q127 q569) rfl hy_X3_one rfl ⟨by omega, by omega⟩ rfl (zc_r (zc_r zc_0)) (by decide) dX3_product_5 h (fun r4 g5 m6 h => ?_) (fun q7 g8 m9 hk6 h => ?_)
  rotate_left 1
  · refine g_out ?_ hk6
    have e := Option.some.inj h
    exact Kthr _ _ _ e
  obtain ⟨hs, h⟩ := zob_e h
  refine g_cIAn [va_rf r4] (fun g0 m0 e0 => ok_X6_init (xl X) g5 m6 r3 r4 g0 m0 e0) (lw_meth q799) q140 q797 q798 rfl hy_X6_init rfl ⟨by omega, by omega⟩ rfl (zc_r zc_0) (by decide) hs dX3_product_8 h (fun g10 m11 h => ?_)
  refine g_astore_n [(1, va_rf r3), (0, va_rf a0)] dX3_product_11 (by decide) (zf_r zf_0) rfl ?_
  obtain ⟨o12, h1, hl12, hr12⟩ := zEx_e h
  have K12 : ∀ (g13 : zGd) (m14 : zMm), o12 = .inr (g13, m14) → zG X cX3_product 3 "QuiverKin$Tokens" "product" (9 + fR) (194 + lR) 51 [(1, va_rf r3)] [] g13 m14 := by
    intro g13 m14 e
    have h := hr12 _ e
    refine g_aload_n dX3_product_51 0 rfl ?_
    refine g_cVRv (rv := fun x : Option Nat => va_rf x) [] (fun x0 e0 => ok_X6_itself (xl X) g13 m14 r3 x0 e0) zc6 (by decide) (lw_V q838 q839 q840 q140 q841) rfl hy_X6_itself rfl ⟨by omega, by omega⟩ rfl zc_0 (by decide) dX3_product_52 h (fun r32 h => ?_)
    refine g_aret dX3_product_55 hxt (by first | exact Or.inl ⟨_, rfl⟩ | exact Or.inr ⟨_, rfl⟩) ?_
    have e := Option.some.inj h
    exact Kret _ _ _ e
  refine zG.sub [1, 0] rfl ?_
  refine zLoop_ok (Φ := (fun (q : zGd × zMm) => match q with | (g16, m17) => zG X cX3_product 3 "QuiverKin$Tokens" "product" (9 + fR) (194 + lR) 12 [(0, va_rf a0), (1, va_rf r3)] [] g16 m17)) o12 ?_ zFuel _ h1
  rintro ⟨g16, m17⟩ x15 h hl15 hr15
  unfold b_X3_product_12 at h
  have K15 : ∀ (g16 : zGd) (m17 : zMm), x15 = .inr (g16, m17) → zG X cX3_product 3 "QuiverKin$Tokens" "product" (9 + fR) (194 + lR) 12 [(0, va_rf a0), (1, va_rf r3)] [] g16 m17 := by
    intro g16 m17 e
    exact hr15 _ e
  show zG X cX3_product 3 "QuiverKin$Tokens" "product" (9 + fR) (194 + lR) 12 [(0, va_rf a0), (1, va_rf r3)] [] g16 m17
  refine g_aload_n dX3_product_12 0 rfl ?_
  refine gf_i zfd_3_4 q346  (fun _ h9 => h9) dX3_product_13 h (fun v18 h => ?_)
  refine g_bipush (v := (42 : Int32)) dX3_product_16 (by decide) ?_
  obtain ⟨o19, h1, hl19, hr19⟩ := zEx_e h
  have K19 : o19 = .inr () → zG X cX3_product 3 "QuiverKin$Tokens" "product" (9 + fR) (194 + lR) 30 [(0, va_rf a0), (1, va_rf r3)] [] g16 m17 := by
    intro e
    have h := hr19 _ e
    refine g_aload_n dX3_product_30 0 rfl ?_
    refine gf_i zfd_3_4 q346  (fun _ h9 => h9) dX3_product_31 h (fun v21 h => ?_)
    refine g_istore_n [(2, .int v21), (0, va_rf a0), (1, va_rf r3)] dX3_product_34 (by decide) (zf_r (zf_r zf_0)) rfl ?_
    refine g_aload_n dX3_product_35 1 rfl ?_
    refine g_cVAn [] (fun g0 m0 e0 => ok_X3_next (xl X) g16 m17 a0 g0 m0 e0) zc3 (by decide) (lw_V q419 q421 qs2 q127 q422) rfl hy_X3_next rfl ⟨by omega, by omega⟩ rfl zc_0 (by decide) dX3_product_36 h (fun g22 m23 h => ?_)
    refine g_aload_n dX3_product_39 2 rfl ?_
    refine g_iload_n dX3_product_40 0 rfl ?_
    refine g_aload_n dX3_product_41 1 rfl ?_
    refine g_xVv (rv := fun x : Option Nat => va_rf x) [] (fun r0 e0 => hrec5 g22 m23 a0 r0 e0) zc3 (by decide) (lw_V q566 q568 qs8 q127 q569) rfl hy_X3_one rfl ⟨by omega, by omega⟩ rfl (zc_i (zc_r zc_0)) (by decide) dX3_product_42 h (fun r24 g25 m26 h => ?_) (fun q27 g28 m29 hk6 h => ?_)
    rotate_left 1
    · refine g_out ?_ hk6
      have e := Option.some.inj h
      have e := hl15 _ e.symm
      have e := hl12 _ e.symm
      exact Kthr _ _ _ e
    refine g_cVAn [.int v21, va_rf r24] (fun g0 m0 e0 => ok_X6_add (xl X) g25 m26 r3 v21 r24 g0 m0 e0) zc6 (by decide) (lw_V q813 q814 q815 q140 q816) rfl hy_X6_add rfl ⟨by omega, by omega⟩ rfl zc_0 (by decide) dX3_product_45 h (fun g30 m31 h => ?_)
    refine g_goto 12 dX3_product_48 (by decide) ?_
    refine zG.sub [1, 2] rfl ?_
    have e := Option.some.inj h
    exact K15 _ _ e.symm
  have h := h1
  refine g_icmp_eq 30 dX3_product_18 (by decide) (fun c => ?_) (fun c => ?_)
  · have h := zite_p h c
    refine zG.sub [0, 1] rfl ?_
    have e := Option.some.inj h
    exact K19 e.symm
  · have h := zite_n h c
    refine g_aload_n dX3_product_21 0 rfl ?_
    refine gf_i zfd_3_4 q346  (fun _ h9 => h9) dX3_product_22 h (fun v20 h => ?_)
    refine g_bipush (v := (47 : Int32)) dX3_product_25 (by decide) ?_
    refine g_icmp_ne 51 dX3_product_27 (by decide) (fun c => ?_) (fun c => ?_)
    · have h := zite_n h c
      refine zG.sub [1] rfl ?_
      have e := Option.some.inj h
      have e := hl19 _ e.symm
      have e := hl15 _ e.symm
      exact K12 _ _ e.symm
    · have h := zite_p h c
      refine zG.sub [0, 1] rfl ?_
      have e := Option.some.inj h
      exact K19 e.symm
def b_X3_sum_12 (rec : (zGd → zMm → Option Nat → Option (((Option Nat) × zGd × zMm) ⊕ (Nat × zGd × zMm))) × (zGd → zMm → Option Nat → Option (((Option Nat) × zGd × zMm) ⊕ (Nat × zGd × zMm))) × (zGd → zMm → Option Nat → Option (((Option Nat) × zGd × zMm) ⊕ (Nat × zGd × zMm))) × (zGd → zMm → Option Nat → Option (((Option Nat) × zGd × zMm) ⊕ (Nat × zGd × zMm))) × (zGd → zMm → Option Nat → Option (((Option Nat) × zGd × zMm) ⊕ (Nat × zGd × zMm))) × (zGd → zMm → Option Nat → Option (((Option Nat) × zGd × zMm) ⊕ (Nat × zGd × zMm))) × (zGd → zMm → Option Nat → Option (((Option Nat) × zGd × zMm) ⊕ (Nat × zGd × zMm)))) (a0 : Option Nat) (r3 : Option Nat) : zGd × zMm → Option ((((((Option Nat) × zGd × zMm) ⊕ (Nat × zGd × zMm)) ⊕ (zGd × zMm))) ⊕ (zGd × zMm)) := fun (g16, m17) =>
(zgi g16 m17 3 4 a0).bind fun v18 =>
zEx (σ := Unit) (if v18 = (43 : Int32) then (some (.inr ()))
else ((zgi g16 m17 3 4 a0).bind fun v20 =>
if v20 = (45 : Int32) then (some (.inr ()))
else (some (.inl (.inl (.inr (g16, m17))))))) fun _ =>
(zgi g16 m17 3 4 a0).bind fun v21 =>
(zrc g16 3 a0 (f_X3_next g16 m17 a0)).bind fun (g22, m23) =>
zXd g22 3 a0 (rec.2.2.2.2.2.1 g22 m23 a0) (fun (q27, g28, m29) => some (.inl (.inl (.inr (q27, g28, m29))))) fun (r24, g25, m26) =>
(zrc g25 6 r3 (f_X6_add g25 m26 r3 v21 r24)).bind fun (g30, m31) =>
some (.inr (g30, m31))
def q_X3_sum (rec : (zGd → zMm → Option Nat → Option (((Option Nat) × zGd × zMm) ⊕ (Nat × zGd × zMm))) × (zGd → zMm → Option Nat → Option (((Option Nat) × zGd × zMm) ⊕ (Nat × zGd × zMm))) × (zGd → zMm → Option Nat → Option (((Option Nat) × zGd × zMm) ⊕ (Nat × zGd × zMm))) × (zGd → zMm → Option Nat → Option (((Option Nat) × zGd × zMm) ⊕ (Nat × zGd × zMm))) × (zGd → zMm → Option Nat → Option (((Option Nat) × zGd × zMm) ⊕ (Nat × zGd × zMm))) × (zGd → zMm → Option Nat → Option (((Option Nat) × zGd × zMm) ⊕ (Nat × zGd × zMm))) × (zGd → zMm → Option Nat → Option (((Option Nat) × zGd × zMm) ⊕ (Nat × zGd × zMm)))) (g : zGd) (m : zMm) (a0 : Option Nat) : Option (((Option Nat) × zGd × zMm) ⊕ (Nat × zGd × zMm)) :=
zlt (znewo g m 6) fun (g1, m2) =>
zlt (some (zZ g)) fun r3 =>
zXd g1 3 a0 (rec.2.2.2.2.2.1 g1 m2 a0) (fun (q7, g8, m9) => some (.inr (q7, g8, m9))) fun (r4, g5, m6) =>
zob r3 ((f_X6_init g5 m6 r3 r4).bind fun (g10, m11) =>
zEx (σ := zGd × zMm) (zLoop (b_X3_sum_12 rec a0 r3) zFuel (g10, m11)) fun (g13, m14) =>
(zrc g13 6 r3 (f_X6_itself g13 m14 r3)).bind fun r32 =>
some (.inl (r32, g13, m14)))
set_option maxHeartbeats 4000000 in
theorem qk_X3_sum (l : Launch) (g : zGd) (m : zMm) (fR lR : Nat) (rec : (zGd → zMm → Option Nat → Option (((Option Nat) × zGd × zMm) ⊕ (Nat × zGd × zMm))) × (zGd → zMm → Option Nat → Option (((Option Nat) × zGd × zMm) ⊕ (Nat × zGd × zMm))) × (zGd → zMm → Option Nat → Option (((Option Nat) × zGd × zMm) ⊕ (Nat × zGd × zMm))) × (zGd → zMm → Option Nat → Option (((Option Nat) × zGd × zMm) ⊕ (Nat × zGd × zMm))) × (zGd → zMm → Option Nat → Option (((Option Nat) × zGd × zMm) ⊕ (Nat × zGd × zMm))) × (zGd → zMm → Option Nat → Option (((Option Nat) × zGd × zMm) ⊕ (Nat × zGd × zMm))) × (zGd → zMm → Option Nat → Option (((Option Nat) × zGd × zMm) ⊕ (Nat × zGd × zMm)))) (hrec1 : ∀ (g : zGd) (m : zMm) (a0 : Option Nat) (r0 : ((Option Nat) × zGd × zMm) ⊕ (Nat × zGd × zMm)), rec.1 g m a0 = some r0 → zCTX l yX3_ask cX3_ask 3 (some (.object "QuiverKin$Asked")) fR lR g m [va_rf a0] (fun x : Option Nat => some (va_rf x)) r0) (hrec2 : ∀ (g : zGd) (m : zMm) (a0 : Option Nat) (r0 : ((Option Nat) × zGd × zMm) ⊕ (Nat × zGd × zMm)), rec.2.1 g m a0 = some r0 → zCTX l yX3_both cX3_both 2 (some (.object "QuiverKin$Asked")) fR lR g m [va_rf a0] (fun x : Option Nat => some (va_rf x)) r0) (hrec3 : ∀ (g : zGd) (m : zMm) (a0 : Option Nat) (r0 : ((Option Nat) × zGd × zMm) ⊕ (Nat × zGd × zMm)), rec.2.2.1 g m a0 = some r0 → zCTX l yX3_either cX3_either 2 (some (.object "QuiverKin$Asked")) fR lR g m [va_rf a0] (fun x : Option Nat => some (va_rf x)) r0) (hrec4 : ∀ (g : zGd) (m : zMm) (a0 : Option Nat) (r0 : ((Option Nat) × zGd × zMm) ⊕ (Nat × zGd × zMm)), rec.2.2.2.1 g m a0 = some r0 → zCTX l yX3_choice cX3_choice 4 (some (.object "QuiverKin$Sum")) fR lR g m [va_rf a0] (fun x : Option Nat => some (va_rf x)) r0) (hrec5 : ∀ (g : zGd) (m : zMm) (a0 : Option Nat) (r0 : ((Option Nat) × zGd × zMm) ⊕ (Nat × zGd × zMm)), rec.2.2.2.2.1 g m a0 = some r0 → zCTX l yX3_one cX3_one 5 (some (.object "QuiverKin$Sum")) fR lR g m [va_rf a0] (fun x : Option Nat => some (va_rf x)) r0) (hrec6 : ∀ (g : zGd) (m : zMm) (a0 : Option Nat) (r0 : ((Option Nat) × zGd × zMm) ⊕ (Nat × zGd × zMm)), rec.2.2.2.2.2.1 g m a0 = some r0 → zCTX l yX3_product cX3_product 3 (some (.object "QuiverKin$Sum")) fR lR g m [va_rf a0] (fun x : Option Nat => some (va_rf x)) r0) (hrec7 : ∀ (g : zGd) (m : zMm) (a0 : Option Nat) (r0 : ((Option Nat) × zGd × zMm) ⊕ (Nat × zGd × zMm)), rec.2.2.2.2.2.2 g m a0 = some r0 → zCTX l yX3_sum cX3_sum 3 (some (.object "QuiverKin$Sum")) fR lR g m [va_rf a0] (fun x : Option Nat => some (va_rf x)) r0) (a0 : Option Nat) (r0 : ((Option Nat) × zGd × zMm) ⊕ (Nat × zGd × zMm)) (h : q_X3_sum rec g m a0 = some r0) : zCTX l yX3_sum cX3_sum 3 (some (.object "QuiverKin$Sum")) (9 + fR) (194 + lR) g m [va_rf a0] (fun x : Option Nat => some (va_rf x)) r0 := by
  unfold zCTX
  refine zXT.of (own := "QuiverKin$Tokens") (mn := "sum") (by decide +kernel) rfl rfl (zla_r zla_0) (zls_r zls_0) (by decide) (fun X hxl hxg hxf hxt hxr hxn => ?_)
  have Kret : ∀ (x : Option Nat) (g1 : zGd) (m1 : zMm), .inl (x, g1, m1) = r0 → zRe X g1 m1 (some (va_rf x)) := by
    intro x g1 m1 e; cases e; exact ⟨hxf, hxr, hxn⟩
  have Kthr : ∀ (q : Nat) (g1 : zGd) (m1 : zMm), .inr (q, g1, m1) = r0 → zRt X g1 m1 q := by
    intro q g1 m1 e; cases e; exact ⟨hxf, hxr, hxn⟩
  subst hxl
  show zG X cX3_sum 3 "QuiverKin$Tokens" "sum" (9 + fR) (194 + lR) 0 [(0, va_rf a0)] [] g m
  unfold q_X3_sum at h
  refine gn_new znd_6 q560 dX3_sum_0 h (fun g1 m2 h => ?_)
  refine g_letr h (fun r3 h => ?_)
  refine g_dup dX3_sum_3 (zcat_r _) ?_
  refine g_aload_n dX3_sum_4 0 rfl ?_
  refine g_xVv (rv := fun x : Option Nat => va_rf x) [] (fun r0 e0 => hrec6 g1 m2 a0 r0 e0) zc3 (by decide) (lw_V q562 q564 qs7 q127 q565) rfl hy_X3_product rfl ⟨by omega, by omega⟩ rfl (zc_r (zc_r zc_0)) (by decide) dX3_sum_5 h (fun r4 g5 m6 h => ?_) (fun q7 g8 m9 hk6 h => ?_)
  rotate_left 1
  · refine g_out ?_ hk6
    have e := Option.some.inj h
    exact Kthr _ _ _ e
  obtain ⟨hs, h⟩ := zob_e h
  refine g_cIAn [va_rf r4] (fun g0 m0 e0 => ok_X6_init (xl X) g5 m6 r3 r4 g0 m0 e0) (lw_meth q799) q140 q797 q798 rfl hy_X6_init rfl ⟨by omega, by omega⟩ rfl (zc_r zc_0) (by decide) hs dX3_sum_8 h (fun g10 m11 h => ?_)
  refine g_astore_n [(1, va_rf r3), (0, va_rf a0)] dX3_sum_11 (by decide) (zf_r zf_0) rfl ?_
  obtain ⟨o12, h1, hl12, hr12⟩ := zEx_e h
  have K12 : ∀ (g13 : zGd) (m14 : zMm), o12 = .inr (g13, m14) → zG X cX3_sum 3 "QuiverKin$Tokens" "sum" (9 + fR) (194 + lR) 51 [(1, va_rf r3)] [] g13 m14 := by
    intro g13 m14 e
    have h := hr12 _ e
    refine g_aload_n dX3_sum_51 0 rfl ?_
    refine g_cVRv (rv := fun x : Option Nat => va_rf x) [] (fun x0 e0 => ok_X6_itself (xl X) g13 m14 r3 x0 e0) zc6 (by decide) (lw_V q838 q839 q840 q140 q841) rfl hy_X6_itself rfl ⟨by omega, by omega⟩ rfl zc_0 (by decide) dX3_sum_52 h (fun r32 h => ?_)
    refine g_aret dX3_sum_55 hxt (by first | exact Or.inl ⟨_, rfl⟩ | exact Or.inr ⟨_, rfl⟩) ?_
    have e := Option.some.inj h
    exact Kret _ _ _ e
  refine zG.sub [1, 0] rfl ?_
  refine zLoop_ok (Φ := (fun (q : zGd × zMm) => match q with | (g16, m17) => zG X cX3_sum 3 "QuiverKin$Tokens" "sum" (9 + fR) (194 + lR) 12 [(0, va_rf a0), (1, va_rf r3)] [] g16 m17)) o12 ?_ zFuel _ h1
  rintro ⟨g16, m17⟩ x15 h hl15 hr15
  unfold b_X3_sum_12 at h
  have K15 : ∀ (g16 : zGd) (m17 : zMm), x15 = .inr (g16, m17) → zG X cX3_sum 3 "QuiverKin$Tokens" "sum" (9 + fR) (194 + lR) 12 [(0, va_rf a0), (1, va_rf r3)] [] g16 m17 := by
    intro g16 m17 e
    exact hr15 _ e
  show zG X cX3_sum 3 "QuiverKin$Tokens" "sum" (9 + fR) (194 + lR) 12 [(0, va_rf a0), (1, va_rf r3)] [] g16 m17
  refine g_aload_n dX3_sum_12 0 rfl ?_
  refine gf_i zfd_3_4 q346  (fun _ h9 => h9) dX3_sum_13 h (fun v18 h => ?_)
  refine g_bipush (v := (43 : Int32)) dX3_sum_16 (by decide) ?_
  obtain ⟨o19, h1, hl19, hr19⟩ := zEx_e h
  have K19 : o19 = .inr () → zG X cX3_sum 3 "QuiverKin$Tokens" "sum" (9 + fR) (194 + lR) 30 [(0, va_rf a0), (1, va_rf r3)] [] g16 m17 := by
    intro e
    have h := hr19 _ e
    refine g_aload_n dX3_sum_30 0 rfl ?_
    refine gf_i zfd_3_4 q346  (fun _ h9 => h9) dX3_sum_31 h (fun v21 h => ?_)
    refine g_istore_n [(2, .int v21), (0, va_rf a0), (1, va_rf r3)] dX3_sum_34 (by decide) (zf_r (zf_r zf_0)) rfl ?_
    refine g_aload_n dX3_sum_35 1 rfl ?_
    refine g_cVAn [] (fun g0 m0 e0 => ok_X3_next (xl X) g16 m17 a0 g0 m0 e0) zc3 (by decide) (lw_V q419 q421 qs2 q127 q422) rfl hy_X3_next rfl ⟨by omega, by omega⟩ rfl zc_0 (by decide) dX3_sum_36 h (fun g22 m23 h => ?_)
    refine g_aload_n dX3_sum_39 2 rfl ?_
    refine g_iload_n dX3_sum_40 0 rfl ?_
    refine g_aload_n dX3_sum_41 1 rfl ?_
    refine g_xVv (rv := fun x : Option Nat => va_rf x) [] (fun r0 e0 => hrec6 g22 m23 a0 r0 e0) zc3 (by decide) (lw_V q562 q564 qs7 q127 q565) rfl hy_X3_product rfl ⟨by omega, by omega⟩ rfl (zc_i (zc_r zc_0)) (by decide) dX3_sum_42 h (fun r24 g25 m26 h => ?_) (fun q27 g28 m29 hk6 h => ?_)
    rotate_left 1
    · refine g_out ?_ hk6
      have e := Option.some.inj h
      have e := hl15 _ e.symm
      have e := hl12 _ e.symm
      exact Kthr _ _ _ e
    refine g_cVAn [.int v21, va_rf r24] (fun g0 m0 e0 => ok_X6_add (xl X) g25 m26 r3 v21 r24 g0 m0 e0) zc6 (by decide) (lw_V q813 q814 q815 q140 q816) rfl hy_X6_add rfl ⟨by omega, by omega⟩ rfl zc_0 (by decide) dX3_sum_45 h (fun g30 m31 h => ?_)
    refine g_goto 12 dX3_sum_48 (by decide) ?_
    refine zG.sub [1, 2] rfl ?_
    have e := Option.some.inj h
    exact K15 _ _ e.symm
  have h := h1
  refine g_icmp_eq 30 dX3_sum_18 (by decide) (fun c => ?_) (fun c => ?_)
  · have h := zite_p h c
    refine zG.sub [0, 1] rfl ?_
    have e := Option.some.inj h
    exact K19 e.symm
  · have h := zite_n h c
    refine g_aload_n dX3_sum_21 0 rfl ?_
    refine gf_i zfd_3_4 q346  (fun _ h9 => h9) dX3_sum_22 h (fun v20 h => ?_)
    refine g_bipush (v := (45 : Int32)) dX3_sum_25 (by decide) ?_
    refine g_icmp_ne 51 dX3_sum_27 (by decide) (fun c => ?_) (fun c => ?_)
    · have h := zite_n h c
      refine zG.sub [1] rfl ?_
      have e := Option.some.inj h
      have e := hl19 _ e.symm
      have e := hl15 _ e.symm
      exact K12 _ _ e.symm
    · have h := zite_p h c
      refine zG.sub [0, 1] rfl ?_
      have e := Option.some.inj h
      exact K19 e.symm
def r_tok : Nat → (zGd → zMm → Option Nat → Option (((Option Nat) × zGd × zMm) ⊕ (Nat × zGd × zMm))) × (zGd → zMm → Option Nat → Option (((Option Nat) × zGd × zMm) ⊕ (Nat × zGd × zMm))) × (zGd → zMm → Option Nat → Option (((Option Nat) × zGd × zMm) ⊕ (Nat × zGd × zMm))) × (zGd → zMm → Option Nat → Option (((Option Nat) × zGd × zMm) ⊕ (Nat × zGd × zMm))) × (zGd → zMm → Option Nat → Option (((Option Nat) × zGd × zMm) ⊕ (Nat × zGd × zMm))) × (zGd → zMm → Option Nat → Option (((Option Nat) × zGd × zMm) ⊕ (Nat × zGd × zMm))) × (zGd → zMm → Option Nat → Option (((Option Nat) × zGd × zMm) ⊕ (Nat × zGd × zMm)))
  | 0 => (fun _ _ _ => none, fun _ _ _ => none, fun _ _ _ => none, fun _ _ _ => none, fun _ _ _ => none, fun _ _ _ => none, fun _ _ _ => none)
  | d + 1 => (q_X3_ask (r_tok d), q_X3_both (r_tok d), q_X3_either (r_tok d), q_X3_choice (r_tok d), q_X3_one (r_tok d), q_X3_product (r_tok d), q_X3_sum (r_tok d))
theorem okr_tok (l : Launch) : ∀ d : Nat, (∀ (g : zGd) (m : zMm) (a0 : Option Nat) (r0 : ((Option Nat) × zGd × zMm) ⊕ (Nat × zGd × zMm)), (r_tok d).1 g m a0 = some r0 → zCTX l yX3_ask cX3_ask 3 (some (.object "QuiverKin$Asked")) (9 * d) (194 * d) g m [va_rf a0] (fun x : Option Nat => some (va_rf x)) r0) ∧ (∀ (g : zGd) (m : zMm) (a0 : Option Nat) (r0 : ((Option Nat) × zGd × zMm) ⊕ (Nat × zGd × zMm)), (r_tok d).2.1 g m a0 = some r0 → zCTX l yX3_both cX3_both 2 (some (.object "QuiverKin$Asked")) (9 * d) (194 * d) g m [va_rf a0] (fun x : Option Nat => some (va_rf x)) r0) ∧ (∀ (g : zGd) (m : zMm) (a0 : Option Nat) (r0 : ((Option Nat) × zGd × zMm) ⊕ (Nat × zGd × zMm)), (r_tok d).2.2.1 g m a0 = some r0 → zCTX l yX3_either cX3_either 2 (some (.object "QuiverKin$Asked")) (9 * d) (194 * d) g m [va_rf a0] (fun x : Option Nat => some (va_rf x)) r0) ∧ (∀ (g : zGd) (m : zMm) (a0 : Option Nat) (r0 : ((Option Nat) × zGd × zMm) ⊕ (Nat × zGd × zMm)), (r_tok d).2.2.2.1 g m a0 = some r0 → zCTX l yX3_choice cX3_choice 4 (some (.object "QuiverKin$Sum")) (9 * d) (194 * d) g m [va_rf a0] (fun x : Option Nat => some (va_rf x)) r0) ∧ (∀ (g : zGd) (m : zMm) (a0 : Option Nat) (r0 : ((Option Nat) × zGd × zMm) ⊕ (Nat × zGd × zMm)), (r_tok d).2.2.2.2.1 g m a0 = some r0 → zCTX l yX3_one cX3_one 5 (some (.object "QuiverKin$Sum")) (9 * d) (194 * d) g m [va_rf a0] (fun x : Option Nat => some (va_rf x)) r0) ∧ (∀ (g : zGd) (m : zMm) (a0 : Option Nat) (r0 : ((Option Nat) × zGd × zMm) ⊕ (Nat × zGd × zMm)), (r_tok d).2.2.2.2.2.1 g m a0 = some r0 → zCTX l yX3_product cX3_product 3 (some (.object "QuiverKin$Sum")) (9 * d) (194 * d) g m [va_rf a0] (fun x : Option Nat => some (va_rf x)) r0) ∧ (∀ (g : zGd) (m : zMm) (a0 : Option Nat) (r0 : ((Option Nat) × zGd × zMm) ⊕ (Nat × zGd × zMm)), (r_tok d).2.2.2.2.2.2 g m a0 = some r0 → zCTX l yX3_sum cX3_sum 3 (some (.object "QuiverKin$Sum")) (9 * d) (194 * d) g m [va_rf a0] (fun x : Option Nat => some (va_rf x)) r0)
  | 0 => ⟨(fun g m a0 r0 h => by cases h), (fun g m a0 r0 h => by cases h), (fun g m a0 r0 h => by cases h), (fun g m a0 r0 h => by cases h), (fun g m a0 r0 h => by cases h), (fun g m a0 r0 h => by cases h), (fun g m a0 r0 h => by cases h)⟩
  | d + 1 => by
    have ih := okr_tok l d
    exact ⟨(fun g m a0 r0 h => by rw [Nat.mul_succ, Nat.mul_succ, Nat.add_comm (9 * d), Nat.add_comm (194 * d)]; exact qk_X3_ask l g m _ _ (r_tok d) ih.1 ih.2.1 ih.2.2.1 ih.2.2.2.1 ih.2.2.2.2.1 ih.2.2.2.2.2.1 ih.2.2.2.2.2.2 a0 r0 h), (fun g m a0 r0 h => by rw [Nat.mul_succ, Nat.mul_succ, Nat.add_comm (9 * d), Nat.add_comm (194 * d)]; exact qk_X3_both l g m _ _ (r_tok d) ih.1 ih.2.1 ih.2.2.1 ih.2.2.2.1 ih.2.2.2.2.1 ih.2.2.2.2.2.1 ih.2.2.2.2.2.2 a0 r0 h), (fun g m a0 r0 h => by rw [Nat.mul_succ, Nat.mul_succ, Nat.add_comm (9 * d), Nat.add_comm (194 * d)]; exact qk_X3_either l g m _ _ (r_tok d) ih.1 ih.2.1 ih.2.2.1 ih.2.2.2.1 ih.2.2.2.2.1 ih.2.2.2.2.2.1 ih.2.2.2.2.2.2 a0 r0 h), (fun g m a0 r0 h => by rw [Nat.mul_succ, Nat.mul_succ, Nat.add_comm (9 * d), Nat.add_comm (194 * d)]; exact qk_X3_choice l g m _ _ (r_tok d) ih.1 ih.2.1 ih.2.2.1 ih.2.2.2.1 ih.2.2.2.2.1 ih.2.2.2.2.2.1 ih.2.2.2.2.2.2 a0 r0 h), (fun g m a0 r0 h => by rw [Nat.mul_succ, Nat.mul_succ, Nat.add_comm (9 * d), Nat.add_comm (194 * d)]; exact qk_X3_one l g m _ _ (r_tok d) ih.1 ih.2.1 ih.2.2.1 ih.2.2.2.1 ih.2.2.2.2.1 ih.2.2.2.2.2.1 ih.2.2.2.2.2.2 a0 r0 h), (fun g m a0 r0 h => by rw [Nat.mul_succ, Nat.mul_succ, Nat.add_comm (9 * d), Nat.add_comm (194 * d)]; exact qk_X3_product l g m _ _ (r_tok d) ih.1 ih.2.1 ih.2.2.1 ih.2.2.2.1 ih.2.2.2.2.1 ih.2.2.2.2.2.1 ih.2.2.2.2.2.2 a0 r0 h), (fun g m a0 r0 h => by rw [Nat.mul_succ, Nat.mul_succ, Nat.add_comm (9 * d), Nat.add_comm (194 * d)]; exact qk_X3_sum l g m _ _ (r_tok d) ih.1 ih.2.1 ih.2.2.1 ih.2.2.2.1 ih.2.2.2.2.1 ih.2.2.2.2.2.1 ih.2.2.2.2.2.2 a0 r0 h)⟩
def f_X3_ask (g : zGd) (m : zMm) (a0 : Option Nat) : Option (((Option Nat) × zGd × zMm) ⊕ (Nat × zGd × zMm)) := (r_tok 80).1 g m a0
theorem ok_X3_ask (l : Launch) (g : zGd) (m : zMm) (a0 : Option Nat) (r0 : ((Option Nat) × zGd × zMm) ⊕ (Nat × zGd × zMm)) (h : f_X3_ask g m a0 = some r0) : zCTX l yX3_ask cX3_ask 3 (some (.object "QuiverKin$Asked")) 720 15520 g m [va_rf a0] (fun x : Option Nat => some (va_rf x)) r0 := (okr_tok l 80).1 g m a0 r0 h
def f_X3_both (g : zGd) (m : zMm) (a0 : Option Nat) : Option (((Option Nat) × zGd × zMm) ⊕ (Nat × zGd × zMm)) := (r_tok 80).2.1 g m a0
theorem ok_X3_both (l : Launch) (g : zGd) (m : zMm) (a0 : Option Nat) (r0 : ((Option Nat) × zGd × zMm) ⊕ (Nat × zGd × zMm)) (h : f_X3_both g m a0 = some r0) : zCTX l yX3_both cX3_both 2 (some (.object "QuiverKin$Asked")) 720 15520 g m [va_rf a0] (fun x : Option Nat => some (va_rf x)) r0 := (okr_tok l 80).2.1 g m a0 r0 h
def f_X3_either (g : zGd) (m : zMm) (a0 : Option Nat) : Option (((Option Nat) × zGd × zMm) ⊕ (Nat × zGd × zMm)) := (r_tok 80).2.2.1 g m a0
theorem ok_X3_either (l : Launch) (g : zGd) (m : zMm) (a0 : Option Nat) (r0 : ((Option Nat) × zGd × zMm) ⊕ (Nat × zGd × zMm)) (h : f_X3_either g m a0 = some r0) : zCTX l yX3_either cX3_either 2 (some (.object "QuiverKin$Asked")) 720 15520 g m [va_rf a0] (fun x : Option Nat => some (va_rf x)) r0 := (okr_tok l 80).2.2.1 g m a0 r0 h
def f_X3_choice (g : zGd) (m : zMm) (a0 : Option Nat) : Option (((Option Nat) × zGd × zMm) ⊕ (Nat × zGd × zMm)) := (r_tok 80).2.2.2.1 g m a0
theorem ok_X3_choice (l : Launch) (g : zGd) (m : zMm) (a0 : Option Nat) (r0 : ((Option Nat) × zGd × zMm) ⊕ (Nat × zGd × zMm)) (h : f_X3_choice g m a0 = some r0) : zCTX l yX3_choice cX3_choice 4 (some (.object "QuiverKin$Sum")) 720 15520 g m [va_rf a0] (fun x : Option Nat => some (va_rf x)) r0 := (okr_tok l 80).2.2.2.1 g m a0 r0 h
def f_X3_one (g : zGd) (m : zMm) (a0 : Option Nat) : Option (((Option Nat) × zGd × zMm) ⊕ (Nat × zGd × zMm)) := (r_tok 80).2.2.2.2.1 g m a0
theorem ok_X3_one (l : Launch) (g : zGd) (m : zMm) (a0 : Option Nat) (r0 : ((Option Nat) × zGd × zMm) ⊕ (Nat × zGd × zMm)) (h : f_X3_one g m a0 = some r0) : zCTX l yX3_one cX3_one 5 (some (.object "QuiverKin$Sum")) 720 15520 g m [va_rf a0] (fun x : Option Nat => some (va_rf x)) r0 := (okr_tok l 80).2.2.2.2.1 g m a0 r0 h
def f_X3_product (g : zGd) (m : zMm) (a0 : Option Nat) : Option (((Option Nat) × zGd × zMm) ⊕ (Nat × zGd × zMm)) := (r_tok 80).2.2.2.2.2.1 g m a0
theorem ok_X3_product (l : Launch) (g : zGd) (m : zMm) (a0 : Option Nat) (r0 : ((Option Nat) × zGd × zMm) ⊕ (Nat × zGd × zMm)) (h : f_X3_product g m a0 = some r0) : zCTX l yX3_product cX3_product 3 (some (.object "QuiverKin$Sum")) 720 15520 g m [va_rf a0] (fun x : Option Nat => some (va_rf x)) r0 := (okr_tok l 80).2.2.2.2.2.1 g m a0 r0 h
def f_X3_sum (g : zGd) (m : zMm) (a0 : Option Nat) : Option (((Option Nat) × zGd × zMm) ⊕ (Nat × zGd × zMm)) := (r_tok 80).2.2.2.2.2.2 g m a0
theorem ok_X3_sum (l : Launch) (g : zGd) (m : zMm) (a0 : Option Nat) (r0 : ((Option Nat) × zGd × zMm) ⊕ (Nat × zGd × zMm)) (h : f_X3_sum g m a0 = some r0) : zCTX l yX3_sum cX3_sum 3 (some (.object "QuiverKin$Sum")) 720 15520 g m [va_rf a0] (fun x : Option Nat => some (va_rf x)) r0 := (okr_tok l 80).2.2.2.2.2.2 g m a0 r0 h
/-! QuiverKin$Tokens.read -/
def b_X3_read_12 (a0 : Option Nat) (r3 : Option Nat) : zGd × zMm → Option ((((((Option Nat) × zGd × zMm) ⊕ (Nat × zGd × zMm)) ⊕ (zGd × zMm))) ⊕ (zGd × zMm)) := fun (g12, m13) =>
(zgi g12 m13 3 4 a0).bind fun v14 =>
if v14 = (301 : Int32) then (some (.inl (.inr (g12, m13))))
else ((zgi g12 m13 3 4 a0).bind fun v15 =>
zEx (σ := Unit) (if v15 < (200 : Int32) then (some (.inr ()))
else ((zgi g12 m13 3 4 a0).bind fun v17 =>
if v17 ≤ (207 : Int32) then ((zgi g12 m13 3 4 a0).bind fun v18 =>
(zpi g12 m13 3 7 a0 v18).bind fun m19 =>
(zgi g12 m19 3 7 a0).bind fun v20 =>
zEx (σ := Unit) (if (201 : Int32) < v20 then (some (.inr ()))
else ((zgr g12 m19 4 0 r3).bind fun r22 =>
(zgi g12 m19 3 7 a0).bind fun v23 =>
(zaldr 107 g12 m19 r22 (v23 - (200 : Int32))).bind fun r24 =>
if r24 = none then (some (.inr ()))
else ((zrc g12 3 a0 (f_X3_wrong g12 m19 a0 (4 : Int32))).bind fun (r25, g26, m27) =>
(zthr g26 r25).bind fun q28 =>
some (.inl (.inl (.inl (.inl (.inr (q28, g26, m27))))))))) fun _ =>
(zgi g12 m19 4 1 r3).bind fun v29 =>
if v29 = (24 : Int32) then ((zrc g12 3 a0 (f_X3_wrong g12 m19 a0 (6 : Int32))).bind fun (r63, g64, m65) =>
(zthr g64 r63).bind fun q66 =>
some (.inl (.inl (.inl (.inr (q66, g64, m65))))))
else ((zrc g12 3 a0 (f_X3_next g12 m19 a0)).bind fun (g30, m31) =>
(zgi g30 m31 3 7 a0).bind fun v32 =>
zEx (σ := zGd × zMm) (if (201 : Int32) < v32 then ((zgr g30 m31 4 2 r3).bind fun r36 =>
(zgi g30 m31 4 1 r3).bind fun v37 =>
zXd g30 3 a0 (f_X3_doing g30 m31 a0 v37) (fun (q41, g42, m43) => some (.inl (.inl (.inl (.inl (.inr (q41, g42, m43))))))) fun (r38, g39, m40) =>
(zrc g39 17 r36 (f_J2_add g39 m40 r36 r38)).bind fun (v44, g45, m46) =>
some (.inr (g45, m46)))
else ((zgr g30 m31 4 0 r3).bind fun r47 =>
(zgi g30 m31 3 7 a0).bind fun v48 =>
zXd g30 3 a0 (f_X3_sum g30 m31 a0) (fun (q52, g53, m54) => some (.inl (.inl (.inl (.inl (.inr (q52, g53, m54))))))) fun (r49, g50, m51) =>
(zastr 6 g50 m51 r47 (v48 - (200 : Int32)) r49).bind fun m55 =>
some (.inr (g50, m55)))) fun (g34, m35) =>
zXd g34 3 a0 (f_X3_want g34 m35 a0 (59 : Int32)) (fun (q58, g59, m60) => some (.inl (.inl (.inl (.inr (q58, g59, m60)))))) fun (_, g56, m57) =>
(zgi g56 m57 4 1 r3).bind fun v61 =>
(zpi g56 m57 4 1 r3 (v61 + (1 : Int32))).bind fun m62 =>
some (.inl (.inr (g56, m62)))))
else (some (.inr ())))) fun _ =>
(zrc g12 3 a0 (f_X3_wrong g12 m13 a0 (1 : Int32))).bind fun (r67, g68, m69) =>
(zthr g68 r67).bind fun q70 =>
some (.inl (.inl (.inr (q70, g68, m69)))))
def f_X3_read (g : zGd) (m : zMm) (a0 : Option Nat) : Option (((Option Nat) × zGd × zMm) ⊕ (Nat × zGd × zMm)) :=
zlt (znewo g m 4) fun (g1, m2) =>
zlt (some (zZ g)) fun r3 =>
zob r3 ((f_X4_init g1 m2 r3).bind fun (g4, m5) =>
(zrc g4 3 a0 (f_X3_next g4 m5 a0)).bind fun (g6, m7) =>
zEx (σ := zGd × zMm) (zLoop (b_X3_read_12 a0 r3) zFuel (g6, m7)) fun (g9, m10) =>
some (.inl (r3, g9, m10)))
theorem hy_X3_read : zHy yX3_read 0 := ⟨by decide, by decide, by decide +kernel⟩
set_option maxHeartbeats 4000000 in
theorem ok_X3_read (l : Launch) (g : zGd) (m : zMm) (a0 : Option Nat) (r0 : ((Option Nat) × zGd × zMm) ⊕ (Nat × zGd × zMm)) (h : f_X3_read g m a0 = some r0) : zCTX l yX3_read cX3_read 2 (some (.object "QuiverKin$Text")) 721 15542 g m [va_rf a0] (fun x : Option Nat => some (va_rf x)) r0 := by
  unfold zCTX
  refine zXT.of (own := "QuiverKin$Tokens") (mn := "read") (by decide +kernel) rfl rfl (zla_r zla_0) (zls_r zls_0) (by decide) (fun X hxl hxg hxf hxt hxr hxn => ?_)
  have Kret : ∀ (x : Option Nat) (g1 : zGd) (m1 : zMm), .inl (x, g1, m1) = r0 → zRe X g1 m1 (some (va_rf x)) := by
    intro x g1 m1 e; cases e; exact ⟨hxf, hxr, hxn⟩
  have Kthr : ∀ (q : Nat) (g1 : zGd) (m1 : zMm), .inr (q, g1, m1) = r0 → zRt X g1 m1 q := by
    intro q g1 m1 e; cases e; exact ⟨hxf, hxr, hxn⟩
  subst hxl
  show zG X cX3_read 2 "QuiverKin$Tokens" "read" 721 15542 0 [(0, va_rf a0)] [] g m
  unfold f_X3_read at h
  refine gn_new znd_4 q371 dX3_read_0 h (fun g1 m2 h => ?_)
  refine g_letr h (fun r3 h => ?_)
  refine g_dup dX3_read_3 (zcat_r _) ?_
  obtain ⟨hs, h⟩ := zob_e h
  refine g_cINAn [] (fun g0 m0 e0 => ok_X4_init (xl X) g1 m2 r3 g0 m0 e0) (lw_meth q375) q128 q373 q374 rfl hy_X4_init rfl ⟨by decide, by decide⟩ rfl (zc_r zc_0) (by decide) hs dX3_read_4 h (fun g4 m5 h => ?_)
  refine g_astore_n [(1, va_rf r3), (0, va_rf a0)] dX3_read_7 (by decide) (zf_r zf_0) rfl ?_
  refine g_aload_n dX3_read_8 1 rfl ?_
  refine g_cVAn [] (fun g0 m0 e0 => ok_X3_next (xl X) g4 m5 a0 g0 m0 e0) zc3 (by decide) (lw_V q419 q421 qs2 q127 q422) rfl hy_X3_next rfl ⟨by decide, by decide⟩ rfl zc_0 (by decide) dX3_read_9 h (fun g6 m7 h => ?_)
  obtain ⟨o8, h1, hl8, hr8⟩ := zEx_e h
  have K8 : ∀ (g9 : zGd) (m10 : zMm), o8 = .inr (g9, m10) → zG X cX3_read 2 "QuiverKin$Tokens" "read" 721 15542 173 [(1, va_rf r3)] [] g9 m10 := by
    intro g9 m10 e
    have h := hr8 _ e
    refine g_aload_n dX3_read_173 0 rfl ?_
    refine g_aret dX3_read_174 hxt (by first | exact Or.inl ⟨_, rfl⟩ | exact Or.inr ⟨_, rfl⟩) ?_
    have e := Option.some.inj h
    exact Kret _ _ _ e
  refine zG.sub [1, 0] rfl ?_
  refine zLoop_ok (Φ := (fun (q : zGd × zMm) => match q with | (g12, m13) => zG X cX3_read 2 "QuiverKin$Tokens" "read" 721 15542 12 [(0, va_rf a0), (1, va_rf r3)] [] g12 m13)) o8 ?_ zFuel _ h1
  rintro ⟨g12, m13⟩ x11 h hl11 hr11
  unfold b_X3_read_12 at h
  have K11 : ∀ (g12 : zGd) (m13 : zMm), x11 = .inr (g12, m13) → zG X cX3_read 2 "QuiverKin$Tokens" "read" 721 15542 12 [(0, va_rf a0), (1, va_rf r3)] [] g12 m13 := by
    intro g12 m13 e
    exact hr11 _ e
  show zG X cX3_read 2 "QuiverKin$Tokens" "read" 721 15542 12 [(0, va_rf a0), (1, va_rf r3)] [] g12 m13
  refine g_aload_n dX3_read_12 0 rfl ?_
  refine gf_i zfd_3_4 q346  (fun _ h9 => h9) dX3_read_13 h (fun v14 h => ?_)
  refine g_sipush (v := (301 : Int32)) dX3_read_16 (by decide) ?_
  refine g_icmp_eq 173 dX3_read_19 (by decide) (fun c => ?_) (fun c => ?_)
  · have h := zite_p h c
    refine zG.sub [1] rfl ?_
    have e := Option.some.inj h
    have e := hl11 _ e.symm
    exact K8 _ _ e.symm
  · have h := zite_n h c
    refine g_aload_n dX3_read_22 0 rfl ?_
    refine gf_i zfd_3_4 q346  (fun _ h9 => h9) dX3_read_23 h (fun v15 h => ?_)
    refine g_sipush (v := (200 : Int32)) dX3_read_26 (by decide) ?_
    obtain ⟨o16, h1, hl16, hr16⟩ := zEx_e h
    have K16 : o16 = .inr () → zG X cX3_read 2 "QuiverKin$Tokens" "read" 721 15542 42 [(0, va_rf a0)] [] g12 m13 := by
      intro e
      have h := hr16 _ e
      refine g_aload_n dX3_read_42 0 rfl ?_
      refine g_iconst (v := (1 : Int32)) dX3_read_43 (by decide) ?_
      refine g_cVAv (rv := fun x : Option Nat => va_rf x) [.int (1 : Int32)] (fun x0 g0 m0 e0 => ok_X3_wrong (xl X) g12 m13 a0 (1 : Int32) x0 g0 m0 e0) zc3 (by decide) (lw_V q488 q490 qs4 q127 q491) rfl hy_X3_wrong rfl ⟨by decide, by decide⟩ rfl zc_0 (by decide) dX3_read_44 h (fun r67 g68 m69 h => ?_)
      refine g_athrow dX3_read_47 h (fun q70 hk6 h => ?_)
      refine g_out ?_ hk6
      have e := Option.some.inj h
      have e := hl11 _ e.symm
      have e := hl8 _ e.symm
      exact Kthr _ _ _ e
    have h := h1
    refine g_icmp_lt 42 dX3_read_29 (by decide) (fun c => ?_) (fun c => ?_)
    · have h := zite_p h c
      refine zG.sub [0] rfl ?_
      have e := Option.some.inj h
      exact K16 e.symm
    · have h := zite_n h c
      refine g_aload_n dX3_read_32 0 rfl ?_
      refine gf_i zfd_3_4 q346  (fun _ h9 => h9) dX3_read_33 h (fun v17 h => ?_)
      refine g_sipush (v := (207 : Int32)) dX3_read_36 (by decide) ?_
      refine g_icmp_le 48 dX3_read_39 (by decide) (fun c => ?_) (fun c => ?_)
      · have h := zite_p h c
        refine g_aload_n dX3_read_48 0 rfl ?_
        refine g_aload_n dX3_read_49 0 rfl ?_
        refine gf_i zfd_3_4 q346  (fun _ h9 => h9) dX3_read_50 h (fun v18 h => ?_)
        refine gp_i zpd_3_7 q349 (fun _ h9 => h9) dX3_read_53 h (fun m19 h => ?_)
        refine g_aload_n dX3_read_56 0 rfl ?_
        refine gf_i zfd_3_7 q349  (fun _ h9 => h9) dX3_read_57 h (fun v20 h => ?_)
        refine g_sipush (v := (201 : Int32)) dX3_read_60 (by decide) ?_
        obtain ⟨o21, h1, hl21, hr21⟩ := zEx_e h
        have K21 : o21 = .inr () → zG X cX3_read 2 "QuiverKin$Tokens" "read" 721 15542 88 [(0, va_rf a0), (1, va_rf r3)] [] g12 m19 := by
          intro e
          have h := hr21 _ e
          refine g_aload_n dX3_read_88 1 rfl ?_
          refine gf_iN zfd_4_1 q408  (fun _ h9 => h9) dX3_read_89 h (fun v29 h => ?_)
          refine g_bipush (v := (24 : Int32)) dX3_read_92 (by decide) ?_
          refine g_icmp_ne 104 dX3_read_94 (by decide) (fun c => ?_) (fun c => ?_)
          · have h := zite_n h c
            refine g_aload_n dX3_read_104 0 rfl ?_
            refine g_cVAn [] (fun g0 m0 e0 => ok_X3_next (xl X) g12 m19 a0 g0 m0 e0) zc3 (by decide) (lw_V q419 q421 qs2 q127 q422) rfl hy_X3_next rfl ⟨by decide, by decide⟩ rfl zc_0 (by decide) dX3_read_105 h (fun g30 m31 h => ?_)
            refine g_aload_n dX3_read_108 0 rfl ?_
            refine gf_i zfd_3_7 q349  (fun _ h9 => h9) dX3_read_109 h (fun v32 h => ?_)
            refine g_sipush (v := (201 : Int32)) dX3_read_112 (by decide) ?_
            obtain ⟨o33, h1, hl33, hr33⟩ := zEx_e h
            have K33 : ∀ (g34 : zGd) (m35 : zMm), o33 = .inr (g34, m35) → zG X cX3_read 2 "QuiverKin$Tokens" "read" 721 15542 154 [(0, va_rf a0), (1, va_rf r3)] [] g34 m35 := by
              intro g34 m35 e
              have h := hr33 _ e
              refine g_aload_n dX3_read_154 0 rfl ?_
              refine g_bipush (v := (59 : Int32)) dX3_read_155 (by decide) ?_
              refine g_xVn [.int (59 : Int32)] (fun r0 e0 => ok_X3_want (xl X) g34 m35 a0 (59 : Int32) r0 e0) zc3 (by decide) (lw_V q727 q729 qs18 q127 q730) rfl hy_X3_want rfl ⟨by decide, by decide⟩ rfl zc_0 (by decide) dX3_read_157 h (fun _ g56 m57 h => ?_) (fun q58 g59 m60 hk6 h => ?_)
              rotate_left 1
              · refine g_out ?_ hk6
                have e := Option.some.inj h
                have e := hl16 _ e.symm
                have e := hl11 _ e.symm
                have e := hl8 _ e.symm
                exact Kthr _ _ _ e
              refine g_aload_n dX3_read_160 1 rfl ?_
              refine g_dup dX3_read_161 (zcat_r _) ?_
              refine gf_iN zfd_4_1 q408  (fun _ h9 => h9) dX3_read_162 h (fun v61 h => ?_)
              refine g_iconst (v := (1 : Int32)) dX3_read_165 (by decide) ?_
              refine g_iadd dX3_read_166 ?_
              refine gp_iN zpd_4_1 q408 (fun _ h9 => h9) dX3_read_167 h (fun m62 h => ?_)
              refine g_goto 12 dX3_read_170 (by decide) ?_
              refine zG.sub [0, 1] rfl ?_
              have e := Option.some.inj h
              have e := hl16 _ e.symm
              exact K11 _ _ e.symm
            have h := h1
            refine g_icmp_gt 138 dX3_read_115 (by decide) (fun c => ?_) (fun c => ?_)
            · have h := zite_p h c
              refine g_aload_n dX3_read_138 1 rfl ?_
              refine gf_rN zfd_4_2 q410  (fun _ h9 => h9) dX3_read_139 h (fun r36 h => ?_)
              refine g_aload_n dX3_read_142 0 rfl ?_
              refine g_aload_n dX3_read_143 1 rfl ?_
              refine gf_iN zfd_4_1 q408  (fun _ h9 => h9) dX3_read_144 h (fun v37 h => ?_)
              refine g_xVv (rv := fun x : Option Nat => va_rf x) [.int v37] (fun r0 e0 => ok_X3_doing (xl X) g30 m31 a0 v37 r0 e0) zc3 (by decide) (lw_V q846 q848 qs21 q127 q849) rfl hy_X3_doing rfl ⟨by decide, by decide⟩ rfl (zc_r zc_0) (by decide) dX3_read_147 h (fun r38 g39 m40 h => ?_) (fun q41 g42 m43 hk6 h => ?_)
              rotate_left 1
              · refine g_out ?_ hk6
                have e := Option.some.inj h
                have e := hl33 _ e.symm
                have e := hl16 _ e.symm
                have e := hl11 _ e.symm
                have e := hl8 _ e.symm
                exact Kthr _ _ _ e
              refine g_cVAv (rv := fun x : Int32 => Value.int x) [va_rf r38] (fun x0 g0 m0 e0 => ok_J2_add (xl X) g39 m40 r36 r38 x0 g0 m0 e0) zc17 (by decide) (lw_V q635 q636 q637 q131 q638) rfl hy_J2_add rfl ⟨by decide, by decide⟩ rfl zc_0 (by decide) dX3_read_150 h (fun v44 g45 m46 h => ?_)
              refine g_pop dX3_read_153 rfl ?_
              refine zG.sub [0, 1] rfl ?_
              have e := Option.some.inj h
              exact K33 _ _ e.symm
            · have h := zite_n h c
              refine g_aload_n dX3_read_118 1 rfl ?_
              refine gf_rN zfd_4_0 q406  (fun _ h9 => h9) dX3_read_119 h (fun r47 h => ?_)
              refine g_aload_n dX3_read_122 0 rfl ?_
              refine gf_i zfd_3_7 q349  (fun _ h9 => h9) dX3_read_123 h (fun v48 h => ?_)
              refine g_sipush (v := (200 : Int32)) dX3_read_126 (by decide) ?_
              refine g_isub dX3_read_129 ?_
              refine g_aload_n dX3_read_130 0 rfl ?_
              refine g_xVv (rv := fun x : Option Nat => va_rf x) [] (fun r0 e0 => ok_X3_sum (xl X) g30 m31 a0 r0 e0) zc3 (by decide) (lw_V q556 q558 qs6 q127 q559) rfl hy_X3_sum rfl ⟨by decide, by decide⟩ rfl (zc_i (zc_r zc_0)) (by decide) dX3_read_131 h (fun r49 g50 m51 h => ?_) (fun q52 g53 m54 hk6 h => ?_)
              rotate_left 1
              · refine g_out ?_ hk6
                have e := Option.some.inj h
                have e := hl33 _ e.symm
                have e := hl16 _ e.symm
                have e := hl11 _ e.symm
                have e := hl8 _ e.symm
                exact Kthr _ _ _ e
              refine g_aast 6 rfl (by decide) dX3_read_134 h (fun m55 h => ?_)
              refine g_goto 154 dX3_read_135 (by decide) ?_
              refine zG.sub [0, 1] rfl ?_
              have e := Option.some.inj h
              exact K33 _ _ e.symm
          · have h := zite_p h c
            refine g_aload_n dX3_read_97 0 rfl ?_
            refine g_bipush (v := (6 : Int32)) dX3_read_98 (by decide) ?_
            refine g_cVAv (rv := fun x : Option Nat => va_rf x) [.int (6 : Int32)] (fun x0 g0 m0 e0 => ok_X3_wrong (xl X) g12 m19 a0 (6 : Int32) x0 g0 m0 e0) zc3 (by decide) (lw_V q488 q490 qs4 q127 q491) rfl hy_X3_wrong rfl ⟨by decide, by decide⟩ rfl zc_0 (by decide) dX3_read_100 h (fun r63 g64 m65 h => ?_)
            refine g_athrow dX3_read_103 h (fun q66 hk6 h => ?_)
            refine g_out ?_ hk6
            have e := Option.some.inj h
            have e := hl16 _ e.symm
            have e := hl11 _ e.symm
            have e := hl8 _ e.symm
            exact Kthr _ _ _ e
        have h := h1
        refine g_icmp_gt 88 dX3_read_63 (by decide) (fun c => ?_) (fun c => ?_)
        · have h := zite_p h c
          refine zG.sub [0, 1] rfl ?_
          have e := Option.some.inj h
          exact K21 e.symm
        · have h := zite_n h c
          refine g_aload_n dX3_read_66 1 rfl ?_
          refine gf_rN zfd_4_0 q406  (fun _ h9 => h9) dX3_read_67 h (fun r22 h => ?_)
          refine g_aload_n dX3_read_70 0 rfl ?_
          refine gf_i zfd_3_7 q349  (fun _ h9 => h9) dX3_read_71 h (fun v23 h => ?_)
          refine g_sipush (v := (200 : Int32)) dX3_read_74 (by decide) ?_
          refine g_isub dX3_read_77 ?_
          refine g_aald 6 rfl rfl (by decide)  dX3_read_78 h (fun r24 h => ?_)
          refine g_ifnull 88 dX3_read_79 (by decide) (fun c => ?_) (fun c => ?_)
          · have h := zite_p h c
            refine zG.sub [0, 1] rfl ?_
            have e := Option.some.inj h
            exact K21 e.symm
          · have h := zite_n h c
            refine g_aload_n dX3_read_82 0 rfl ?_
            refine g_iconst (v := (4 : Int32)) dX3_read_83 (by decide) ?_
            refine g_cVAv (rv := fun x : Option Nat => va_rf x) [.int (4 : Int32)] (fun x0 g0 m0 e0 => ok_X3_wrong (xl X) g12 m19 a0 (4 : Int32) x0 g0 m0 e0) zc3 (by decide) (lw_V q488 q490 qs4 q127 q491) rfl hy_X3_wrong rfl ⟨by decide, by decide⟩ rfl zc_0 (by decide) dX3_read_84 h (fun r25 g26 m27 h => ?_)
            refine g_athrow dX3_read_87 h (fun q28 hk6 h => ?_)
            refine g_out ?_ hk6
            have e := Option.some.inj h
            have e := hl21 _ e.symm
            have e := hl16 _ e.symm
            have e := hl11 _ e.symm
            have e := hl8 _ e.symm
            exact Kthr _ _ _ e
      · have h := zite_n h c
        refine zG.sub [0] rfl ?_
        have e := Option.some.inj h
        exact K16 e.symm
/-! QuiverKin.text -/
def f_X0_text (g : zGd) (m : zMm) (a0 : Option Nat) : Option (Int32 × zGd × zMm) :=
(zgr g m 0 0 a0).bind fun r1 =>
(zgr g m 1 0 r1).bind fun r2 =>
(zald 101 g m r2 (1 : Int32)).bind fun v3 =>
if v3 = (4 : Int32) then (some (((-1 : Int32), g, m)))
else ((zgi g m 0 3 a0).bind fun v4 =>
(zpi g m 0 4 a0 (0 : Int32)).bind fun m5 =>
(zpi g m5 0 5 a0 (-1 : Int32)).bind fun m6 =>
(zgr g m6 0 0 a0).bind fun r7 =>
(zgr g m6 1 11 r7).bind fun r8 =>
(zgr g m6 0 0 a0).bind fun r9 =>
(zgr g m6 1 0 r9).bind fun r10 =>
(zald 101 g m6 r10 (1 : Int32)).bind fun v11 =>
zlt (znewo g m6 3) fun (g12, m13) =>
zlt (some (zZ g)) fun r14 =>
(zgr g12 m13 0 2 a0).bind fun r15 =>
zob r14 ((f_X3_init g12 m13 r14 r15 v4).bind fun m16 =>
zXd g12 3 r14 (f_X3_read g12 m16 r14) (fun (q20, g21, m22) => zlt (some q20) fun r23 =>
(zgi g21 m22 5 0 r23).bind fun v24 =>
(zpi g21 m22 0 4 a0 v24).bind fun m25 =>
(zgi g21 m25 5 1 r23).bind fun v26 =>
(zpi g21 m25 0 5 a0 v26).bind fun m27 =>
(zpi g21 m27 0 3 a0 (0 : Int32)).bind fun m28 =>
some (((-1 : Int32), g21, m28))) fun (r17, g18, m19) =>
(zastr 7 g18 m19 r8 v11 r17).bind fun m29 =>
(zpi g18 m29 0 3 a0 (0 : Int32)).bind fun m30 =>
(zgr g18 m30 0 0 a0).bind fun r31 =>
(zgr g18 m30 1 0 r31).bind fun r32 =>
(zald 101 g18 m30 r32 (1 : Int32)).bind fun v33 =>
(zast 101 g18 m30 r32 (1 : Int32) (v33 + (1 : Int32))).bind fun m34 =>
(zgr g18 m34 0 0 a0).bind fun r35 =>
(zgr g18 m34 1 0 r35).bind fun r36 =>
(zald 101 g18 m34 r36 (1 : Int32)).bind fun v37 =>
some (((v37 - (1 : Int32)), g18, m34))))
theorem hy_X0_text : zHy yX0_text 0 := ⟨by decide, by decide, by decide +kernel⟩
set_option maxHeartbeats 4000000 in
theorem ok_X0_text (l : Launch) (g : zGd) (m : zMm) (a0 : Option Nat) (z0 : Int32) (g0 : zGd) (m0 : zMm) (h : f_X0_text g m a0 = some (z0, g0, m0)) : zCTW l yX0_text cX0_text 5 (some .int) [((30 : Nat), (62 : Nat), (70 : Nat), (103 : Nat)), ((30 : Nat), (62 : Nat), (96 : Nat), (0 : Nat)), ((70 : Nat), (89 : Nat), (96 : Nat), (0 : Nat)), ((96 : Nat), (98 : Nat), (96 : Nat), (0 : Nat))] 722 15563 g m [va_rf a0] (some (.int z0)) g0 m0 := by
  refine zCTW.of (own := "QuiverKin") (mn := "text") (by decide +kernel) rfl rfl (zla_r zla_0) (zls_r zls_0) (by decide) (fun X hxl hxg hxf hxt hxr hxn htab => ?_)
  have Kret : ∀ (y0 : Int32) (y1 : zGd) (y2 : zMm), (y0, y1, y2) = (z0, g0, m0) → zRe X y1 y2 (some (.int y0)) := by
    intro y0 y1 y2 e; cases e; exact ⟨hxf, hxr, hxn⟩
  subst hxl
  show zG X cX0_text 5 "QuiverKin" "text" 722 15563 0 [(0, va_rf a0)] [] g m
  unfold f_X0_text at h
  refine g_aload_n dX0_text_0 0 rfl ?_
  refine gf_r zfd_0_0 q239  (fun _ h9 => h9) dX0_text_1 h (fun r1 h => ?_)
  refine gf_rN zfd_1_0 q177  (fun _ h9 => h9) dX0_text_4 h (fun r2 h => ?_)
  refine g_iconst (v := (1 : Int32)) dX0_text_7 (by decide) ?_
  refine g_iald dX0_text_8 h (fun v3 h => ?_)
  refine g_iconst (v := (4 : Int32)) dX0_text_9 (by decide) ?_
  refine g_icmp_ne 15 dX0_text_10 (by decide) (fun c => ?_) (fun c => ?_)
  · have h := zite_n h c
    refine g_aload_n dX0_text_15 0 rfl ?_
    refine gf_i zfd_0_3 q242  (fun _ h9 => h9) dX0_text_16 h (fun v4 h => ?_)
    refine g_istore_n [(1, .int v4), (0, va_rf a0)] dX0_text_19 (by decide) (zf_r zf_0) rfl ?_
    refine g_aload_n dX0_text_20 1 rfl ?_
    refine g_iconst (v := (0 : Int32)) dX0_text_21 (by decide) ?_
    refine gp_i zpd_0_4 q243 (fun _ h9 => h9) dX0_text_22 h (fun m5 h => ?_)
    refine g_aload_n dX0_text_25 1 rfl ?_
    refine g_iconst (v := (-1 : Int32)) dX0_text_26 (by decide) ?_
    refine gp_i zpd_0_5 q244 (fun _ h9 => h9) dX0_text_27 h (fun m6 h => ?_)
    refine g_aload_n dX0_text_30 1 rfl ?_
    refine gf_r zfd_0_0 q239  (fun _ h9 => h9) dX0_text_31 h (fun r7 h => ?_)
    refine gf_rN zfd_1_11 q199  (fun _ h9 => h9) dX0_text_34 h (fun r8 h => ?_)
    refine g_aload_n dX0_text_37 1 rfl ?_
    refine gf_r zfd_0_0 q239  (fun _ h9 => h9) dX0_text_38 h (fun r9 h => ?_)
    refine gf_rN zfd_1_0 q177  (fun _ h9 => h9) dX0_text_41 h (fun r10 h => ?_)
    refine g_iconst (v := (1 : Int32)) dX0_text_44 (by decide) ?_
    refine g_iald dX0_text_45 h (fun v11 h => ?_)
    refine gn_new znd_3 q336 dX0_text_46 h (fun g12 m13 h => ?_)
    refine g_letr h (fun r14 h => ?_)
    refine g_dup dX0_text_49 (zcat_r _) ?_
    refine g_aload_n dX0_text_50 1 rfl ?_
    refine gf_r zfd_0_2 q241  (fun _ h9 => h9) dX0_text_51 h (fun r15 h => ?_)
    refine g_iload_n dX0_text_54 0 rfl ?_
    obtain ⟨hs, h⟩ := zob_e h
    refine g_cIMn [va_rf r15, .int v4] (fun m0 e0 => ok_X3_init (xl X) g12 m13 r14 r15 v4 m0 e0) (lw_meth q340) q127 q338 q339 rfl hy_X3_init rfl ⟨by decide, by decide⟩ rfl (zc_r (zc_i (zc_r zc_0))) (by decide) hs dX0_text_55 h (fun m16 h => ?_)
    refine g_xVv (rv := fun x : Option Nat => va_rf x) [] (fun r0 e0 => ok_X3_read (xl X) g12 m16 r14 r0 e0) zc3 (by decide) (lw_V q367 q368 q369 q127 q370) rfl hy_X3_read rfl ⟨by decide, by decide⟩ rfl (zc_i (zc_r zc_0)) (by decide) dX0_text_58 h (fun r17 g18 m19 h => ?_) (fun q20 g21 m22 hk6 h => ?_)
    rotate_left 1
    · refine g_catch hk6 htab (by decide) (by decide) q335 ?_
      show zG X cX0_text 5 "QuiverKin" "text" 722 15563 70 [(1, .int v4), (0, va_rf a0)] [va_rf (some q20)] g21 m22
      refine g_letr h (fun r23 h => ?_)
      refine g_astore_n [(2, va_rf r23), (1, .int v4), (0, va_rf a0)] dX0_text_70 (by decide) (zf_i (zf_r zf_0)) rfl ?_
      refine g_aload_n dX0_text_71 2 rfl ?_
      refine g_aload_n dX0_text_72 0 rfl ?_
      refine gf_iN zfd_5_0 q537  (fun _ h9 => h9) dX0_text_73 h (fun v24 h => ?_)
      refine gp_i zpd_0_4 q243 (fun _ h9 => h9) dX0_text_76 h (fun m25 h => ?_)
      refine g_aload_n dX0_text_79 2 rfl ?_
      refine g_aload_n dX0_text_80 0 rfl ?_
      refine gf_iN zfd_5_1 q539  (fun _ h9 => h9) dX0_text_81 h (fun v26 h => ?_)
      refine gp_i zpd_0_5 q244 (fun _ h9 => h9) dX0_text_84 h (fun m27 h => ?_)
      refine g_iconst (v := (-1 : Int32)) dX0_text_87 (by decide) ?_
      refine g_istore_n [(3, .int (-1 : Int32)), (2, va_rf r23), (1, .int v4), (0, va_rf a0)] dX0_text_88 (by decide) (zf_r (zf_i (zf_r zf_0))) rfl ?_
      refine g_aload_n dX0_text_89 3 rfl ?_
      refine g_iconst (v := (0 : Int32)) dX0_text_90 (by decide) ?_
      refine gp_i zpd_0_3 q242 (fun _ h9 => h9) dX0_text_91 h (fun m28 h => ?_)
      refine g_iload_n dX0_text_94 0 rfl ?_
      refine g_iret dX0_text_95 hxt ?_
      have e := Option.some.inj h
      exact Kret _ _ _ e
    refine g_aast 7 rfl (by decide) dX0_text_61 h (fun m29 h => ?_)
    refine g_aload_n dX0_text_62 1 rfl ?_
    refine g_iconst (v := (0 : Int32)) dX0_text_63 (by decide) ?_
    refine gp_i zpd_0_3 q242 (fun _ h9 => h9) dX0_text_64 h (fun m30 h => ?_)
    refine g_goto 106 dX0_text_67 (by decide) ?_
    refine g_aload_n dX0_text_106 1 rfl ?_
    refine gf_r zfd_0_0 q239  (fun _ h9 => h9) dX0_text_107 h (fun r31 h => ?_)
    refine gf_rN zfd_1_0 q177  (fun _ h9 => h9) dX0_text_110 h (fun r32 h => ?_)
    refine g_iconst (v := (1 : Int32)) dX0_text_113 (by decide) ?_
    refine g_dup2 dX0_text_114 rfl (zcat_r _) ?_
    refine g_iald dX0_text_115 h (fun v33 h => ?_)
    refine g_iconst (v := (1 : Int32)) dX0_text_116 (by decide) ?_
    refine g_iadd dX0_text_117 ?_
    refine g_iast dX0_text_118 h (fun m34 h => ?_)
    refine g_aload_n dX0_text_119 1 rfl ?_
    refine gf_r zfd_0_0 q239  (fun _ h9 => h9) dX0_text_120 h (fun r35 h => ?_)
    refine gf_rN zfd_1_0 q177  (fun _ h9 => h9) dX0_text_123 h (fun r36 h => ?_)
    refine g_iconst (v := (1 : Int32)) dX0_text_126 (by decide) ?_
    refine g_iald dX0_text_127 h (fun v37 h => ?_)
    refine g_iconst (v := (1 : Int32)) dX0_text_128 (by decide) ?_
    refine g_isub dX0_text_129 ?_
    refine g_iret dX0_text_130 hxt ?_
    have e := Option.some.inj h
    exact Kret _ _ _ e
  · have h := zite_p h c
    refine g_iconst (v := (-1 : Int32)) dX0_text_13 (by decide) ?_
    refine g_iret dX0_text_14 hxt ?_
    have e := Option.some.inj h
    exact Kret _ _ _ e
/-! QuiverKin.fault -/
def f_X0_fault (g : zGd) (m : zMm) (a0 : Option Nat) (a1 : Int32) : Option (Int32) :=
if a1 = 0 then ((zgi g m 0 4 a0).bind fun v2 =>
some (v2))
else (if a1 = (1 : Int32) then ((zgi g m 0 5 a0).bind fun v1 =>
some (v1))
else (some ((-1 : Int32))))
theorem hy_X0_fault : zHy yX0_fault 1 := ⟨by decide, by decide, by decide +kernel⟩
set_option maxHeartbeats 4000000 in
theorem ok_X0_fault (l : Launch) (g : zGd) (m : zMm) (a0 : Option Nat) (a1 : Int32) (z0 : Int32) (h : f_X0_fault g m a0 a1 = some z0) : zCT l yX0_fault cX0_fault 2 (some .int) 1 20 g m [va_rf a0, .int a1] (some (.int z0)) g m := by
  refine zCT.of (own := "QuiverKin") (mn := "fault") (by decide +kernel) rfl rfl (zla_r (zla_i zla_0)) (zls_r (zls_i zls_0)) (by decide) (fun X hxl hxg hxf hxt hxr hxn => ?_)
  have Kret : ∀ (y0 : Int32), y0 = z0 → zRe X g m (some (.int y0)) := by
    intro y0 e; cases e; exact ⟨hxf, hxr, hxn⟩
  subst hxl
  show zG X cX0_fault 2 "QuiverKin" "fault" 1 20 0 [(0, va_rf a0), (1, .int a1)] [] g m
  unfold f_X0_fault at h
  refine g_iload_n dX0_fault_0 1 rfl ?_
  refine g_if_ne 11 dX0_fault_1 (by decide) (fun c => ?_) (fun c => ?_)
  · have h := zite_n h c
    refine g_iload_n dX0_fault_11 1 rfl ?_
    refine g_iconst (v := (1 : Int32)) dX0_fault_12 (by decide) ?_
    refine g_icmp_ne 23 dX0_fault_13 (by decide) (fun c => ?_) (fun c => ?_)
    · have h := zite_n h c
      refine g_iconst (v := (-1 : Int32)) dX0_fault_23 (by decide) ?_
      refine g_iret dX0_fault_24 hxt ?_
      have e := Option.some.inj h
      exact Kret _ e
    · have h := zite_p h c
      refine g_aload_n dX0_fault_16 0 rfl ?_
      refine gf_i zfd_0_5 q244  (fun _ h9 => h9) dX0_fault_17 h (fun v1 h => ?_)
      refine g_goto 24 dX0_fault_20 (by decide) ?_
      refine g_iret dX0_fault_24 hxt ?_
      have e := Option.some.inj h
      exact Kret _ e
  · have h := zite_p h c
    refine g_aload_n dX0_fault_4 0 rfl ?_
    refine gf_i zfd_0_4 q243  (fun _ h9 => h9) dX0_fault_5 h (fun v2 h => ?_)
    refine g_goto 24 dX0_fault_8 (by decide) ?_
    refine g_iret dX0_fault_24 hxt ?_
    have e := Option.some.inj h
    exact Kret _ e
/-! QuiverKin.isText -/
def f_X0_isText (g : zGd) (m : zMm) (a0 : Option Nat) (a1 : Int32) : Option (Int32) :=
(zgr g m 0 0 a0).bind fun r1 =>
(zgr g m 1 0 r1).bind fun r2 =>
(zald 101 g m r2 (1 : Int32)).bind fun v3 =>
(f_X0_in a1 (0 : Int32) (v3 - (1 : Int32))).bind fun v4 =>
(zbo v4).bind fun z =>
some (z)
theorem hy_X0_isText : zHy yX0_isText 1 := ⟨by decide, by decide, by decide +kernel⟩
set_option maxHeartbeats 4000000 in
theorem ok_X0_isText (l : Launch) (g : zGd) (m : zMm) (a0 : Option Nat) (a1 : Int32) (z0 : Int32) (h : f_X0_isText g m a0 a1 = some z0) : zCT l yX0_isText cX0_isText 2 (some .boolean) 2 42 g m [va_rf a0, .int a1] (some (.int z0)) g m := by
  refine zCT.of (own := "QuiverKin") (mn := "isText") (by decide +kernel) rfl rfl (zla_r (zla_i zla_0)) (zls_r (zls_i zls_0)) (by decide) (fun X hxl hxg hxf hxt hxr hxn => ?_)
  have Kret : ∀ (y0 : Int32), y0 = z0 → zRe X g m (some (.int y0)) := by
    intro y0 e; cases e; exact ⟨hxf, hxr, hxn⟩
  subst hxl
  show zG X cX0_isText 2 "QuiverKin" "isText" 2 42 0 [(0, va_rf a0), (1, .int a1)] [] g m
  unfold f_X0_isText at h
  refine g_iload_n dX0_isText_0 1 rfl ?_
  refine g_iconst (v := (0 : Int32)) dX0_isText_1 (by decide) ?_
  refine g_aload_n dX0_isText_2 0 rfl ?_
  refine gf_r zfd_0_0 q239  (fun _ h9 => h9) dX0_isText_3 h (fun r1 h => ?_)
  refine gf_rN zfd_1_0 q177  (fun _ h9 => h9) dX0_isText_6 h (fun r2 h => ?_)
  refine g_iconst (v := (1 : Int32)) dX0_isText_9 (by decide) ?_
  refine g_iald dX0_isText_10 h (fun v3 h => ?_)
  refine g_iconst (v := (1 : Int32)) dX0_isText_11 (by decide) ?_
  refine g_isub dX0_isText_12 ?_
  refine g_cSRv (rv := fun x : Int32 => Value.int x) [.int a1, .int (0 : Int32), .int (v3 - (1 : Int32))] (fun x0 e0 => ok_X0_in (xl X) g m a1 (0 : Int32) (v3 - (1 : Int32)) x0 e0) (lw_S q312 q313 q123 q314) hy_X0_in rfl ⟨by decide, by decide⟩ rfl zc_0 (by decide) dX0_isText_13 h (fun v4 h => ?_)
  obtain ⟨hn, h⟩ := zbo_e h
  refine g_zret dX0_isText_16 hxt hn ?_
  have e := Option.some.inj h
  exact Kret _ e
/-! QuiverKin.by -/
def f_X0_by (g : zGd) (m : zMm) (a0 : Option Nat) (a1 : Int32) : Option (Int32 × zMm) :=
zEx (σ := Unit) (if a1 = (-1 : Int32) then (some (.inr ()))
else ((zrc g 0 a0 (f_X0_isText g m a0 a1)).bind fun v2 =>
if v2 = 0 then (some (.inl (((0 : Int32), m))))
else (some (.inr ())))) fun _ =>
(zgr g m 0 0 a0).bind fun r3 =>
(zgr g m 1 0 r3).bind fun r4 =>
(zast 101 g m r4 (2 : Int32) a1).bind fun m5 =>
some (((1 : Int32), m5))
theorem hy_X0_by : zHy yX0_by 1 := ⟨by decide, by decide, by decide +kernel⟩
set_option maxHeartbeats 4000000 in
theorem ok_X0_by (l : Launch) (g : zGd) (m : zMm) (a0 : Option Nat) (a1 : Int32) (z0 : Int32) (m0 : zMm) (h : f_X0_by g m a0 a1 = some (z0, m0)) : zCT l yX0_by cX0_by 2 (some .boolean) 3 63 g m [va_rf a0, .int a1] (some (.int z0)) g m0 := by
  refine zCT.of (own := "QuiverKin") (mn := "by") (by decide +kernel) rfl rfl (zla_r (zla_i zla_0)) (zls_r (zls_i zls_0)) (by decide) (fun X hxl hxg hxf hxt hxr hxn => ?_)
  have Kret : ∀ (y0 : Int32) (y1 : zMm), (y0, y1) = (z0, m0) → zRe X g y1 (some (.int y0)) := by
    intro y0 y1 e; cases e; exact ⟨hxf, hxr, hxn⟩
  subst hxl
  show zG X cX0_by 2 "QuiverKin" "by" 3 63 0 [(0, va_rf a0), (1, .int a1)] [] g m
  unfold f_X0_by at h
  refine g_iload_n dX0_by_0 1 rfl ?_
  refine g_iconst (v := (-1 : Int32)) dX0_by_1 (by decide) ?_
  obtain ⟨o1, h1, hl1, hr1⟩ := zEx_e h
  have K1 : o1 = .inr () → zG X cX0_by 2 "QuiverKin" "by" 3 63 15 [(0, va_rf a0), (1, .int a1)] [] g m := by
    intro e
    have h := hr1 _ e
    refine g_aload_n dX0_by_15 0 rfl ?_
    refine gf_r zfd_0_0 q239  (fun _ h9 => h9) dX0_by_16 h (fun r3 h => ?_)
    refine gf_rN zfd_1_0 q177  (fun _ h9 => h9) dX0_by_19 h (fun r4 h => ?_)
    refine g_iconst (v := (2 : Int32)) dX0_by_22 (by decide) ?_
    refine g_iload_n dX0_by_23 1 rfl ?_
    refine g_iast dX0_by_24 h (fun m5 h => ?_)
    refine g_iconst (v := (1 : Int32)) dX0_by_25 (by decide) ?_
    refine g_zret dX0_by_26 hxt rfl ?_
    have e := Option.some.inj h
    exact Kret _ _ e
  have h := h1
  refine g_icmp_eq 15 dX0_by_2 (by decide) (fun c => ?_) (fun c => ?_)
  · have h := zite_p h c
    refine zG.sub [0, 1] rfl ?_
    have e := Option.some.inj h
    exact K1 e.symm
  · have h := zite_n h c
    refine g_aload_n dX0_by_5 0 rfl ?_
    refine g_iload_n dX0_by_6 1 rfl ?_
    refine g_cVRv (rv := fun x : Int32 => Value.int x) [.int a1] (fun x0 e0 => ok_X0_isText (xl X) g m a0 a1 x0 e0) zc0 (by decide) (lw_V q881 q883 qs23 q123 q884) rfl hy_X0_isText rfl ⟨by decide, by decide⟩ rfl zc_0 (by decide) dX0_by_7 h (fun v2 h => ?_)
    refine g_if_ne 15 dX0_by_10 (by decide) (fun c => ?_) (fun c => ?_)
    · have h := zite_n h c
      refine zG.sub [0, 1] rfl ?_
      have e := Option.some.inj h
      exact K1 e.symm
    · have h := zite_p h c
      refine g_iconst (v := (0 : Int32)) dX0_by_13 (by decide) ?_
      refine g_zret dX0_by_14 hxt rfl ?_
      have e := Option.some.inj h
      have e := hl1 _ e.symm
      exact Kret _ _ e
/-! QuiverKin.has -/
def f_X0_has (a0 : Int32) (a1 : Int32) : Option (Int32) :=
if ((zshr a0 a1) &&& (1 : Int32)) = (1 : Int32) then (some ((1 : Int32)))
else (some ((0 : Int32)))
theorem hy_X0_has : zHy yX0_has 2 := ⟨by decide, by decide, by decide +kernel⟩
set_option maxHeartbeats 4000000 in
theorem ok_X0_has (l : Launch) (g : zGd) (m : zMm) (a0 : Int32) (a1 : Int32) (z0 : Int32) (h : f_X0_has a0 a1 = some z0) : zCT l yX0_has cX0_has 2 (some .boolean) 1 20 g m [.int a0, .int a1] (some (.int z0)) g m := by
  refine zCT.of (own := "QuiverKin") (mn := "has") (by decide +kernel) rfl rfl (zla_i (zla_i zla_0)) (zls_i (zls_i zls_0)) (by decide) (fun X hxl hxg hxf hxt hxr hxn => ?_)
  have Kret : ∀ (y0 : Int32), y0 = z0 → zRe X g m (some (.int y0)) := by
    intro y0 e; cases e; exact ⟨hxf, hxr, hxn⟩
  subst hxl
  show zG X cX0_has 2 "QuiverKin" "has" 1 20 0 [(0, .int a0), (1, .int a1)] [] g m
  unfold f_X0_has at h
  refine g_iload_n dX0_has_0 0 rfl ?_
  refine g_iload_n dX0_has_1 1 rfl ?_
  refine g_ishr dX0_has_2 ?_
  refine g_iconst (v := (1 : Int32)) dX0_has_3 (by decide) ?_
  refine g_iand dX0_has_4 ?_
  refine g_iconst (v := (1 : Int32)) dX0_has_5 (by decide) ?_
  refine g_icmp_ne 13 dX0_has_6 (by decide) (fun c => ?_) (fun c => ?_)
  · have h := zite_n h c
    refine g_iconst (v := (0 : Int32)) dX0_has_13 (by decide) ?_
    refine g_zret dX0_has_14 hxt rfl ?_
    have e := Option.some.inj h
    exact Kret _ e
  · have h := zite_p h c
    refine g_iconst (v := (1 : Int32)) dX0_has_9 (by decide) ?_
    refine g_goto 14 dX0_has_10 (by decide) ?_
    refine g_zret dX0_has_14 hxt rfl ?_
    have e := Option.some.inj h
    exact Kret _ e
/-! QuiverKin.isKin -/
def f_X0_isKin (g : zGd) (m : zMm) (a0 : Option Nat) (a1 : Int32) : Option (Int32) :=
(zrc g 0 a0 (f_X0_many g m a0)).bind fun v1 =>
(f_X0_in a1 (0 : Int32) (v1 - (1 : Int32))).bind fun v2 =>
(zbo v2).bind fun z =>
some (z)
theorem hy_X0_isKin : zHy yX0_isKin 1 := ⟨by decide, by decide, by decide +kernel⟩
set_option maxHeartbeats 4000000 in
theorem ok_X0_isKin (l : Launch) (g : zGd) (m : zMm) (a0 : Option Nat) (a1 : Int32) (z0 : Int32) (h : f_X0_isKin g m a0 a1 = some z0) : zCT l yX0_isKin cX0_isKin 2 (some .boolean) 2 42 g m [va_rf a0, .int a1] (some (.int z0)) g m := by
  refine zCT.of (own := "QuiverKin") (mn := "isKin") (by decide +kernel) rfl rfl (zla_r (zla_i zla_0)) (zls_r (zls_i zls_0)) (by decide) (fun X hxl hxg hxf hxt hxr hxn => ?_)
  have Kret : ∀ (y0 : Int32), y0 = z0 → zRe X g m (some (.int y0)) := by
    intro y0 e; cases e; exact ⟨hxf, hxr, hxn⟩
  subst hxl
  show zG X cX0_isKin 2 "QuiverKin" "isKin" 2 42 0 [(0, va_rf a0), (1, .int a1)] [] g m
  unfold f_X0_isKin at h
  refine g_iload_n dX0_isKin_0 1 rfl ?_
  refine g_iconst (v := (0 : Int32)) dX0_isKin_1 (by decide) ?_
  refine g_aload_n dX0_isKin_2 0 rfl ?_
  refine g_cVRv (rv := fun x : Int32 => Value.int x) [] (fun x0 e0 => ok_X0_many (xl X) g m a0 x0 e0) zc0 (by decide) (lw_V q308 q310 qs0 q123 q311) rfl hy_X0_many rfl ⟨by decide, by decide⟩ rfl (zc_i (zc_i zc_0)) (by decide) dX0_isKin_3 h (fun v1 h => ?_)
  refine g_iconst (v := (1 : Int32)) dX0_isKin_6 (by decide) ?_
  refine g_isub dX0_isKin_7 ?_
  refine g_cSRv (rv := fun x : Int32 => Value.int x) [.int a1, .int (0 : Int32), .int (v1 - (1 : Int32))] (fun x0 e0 => ok_X0_in (xl X) g m a1 (0 : Int32) (v1 - (1 : Int32)) x0 e0) (lw_S q312 q313 q123 q314) hy_X0_in rfl ⟨by decide, by decide⟩ rfl zc_0 (by decide) dX0_isKin_8 h (fun v2 h => ?_)
  obtain ⟨hn, h⟩ := zbo_e h
  refine g_zret dX0_isKin_11 hxt hn ?_
  have e := Option.some.inj h
  exact Kret _ e
/-! QuiverKin.canReach -/
def f_X0_canReach (g : zGd) (m : zMm) (a0 : Option Nat) (a1 : Int32) : Option (Int32) :=
(zrc g 0 a0 (f_X0_isKin g m a0 a1)).bind fun v1 =>
if v1 = 0 then (some ((0 : Int32)))
else ((zgr g m 0 0 a0).bind fun r2 =>
(zgr g m 1 1 r2).bind fun r3 =>
(zald 101 g m r3 (14 : Int32)).bind fun v4 =>
(f_X0_has v4 a1).bind fun v5 =>
if v5 = 0 then (some ((1 : Int32)))
else (some ((0 : Int32))))
theorem hy_X0_canReach : zHy yX0_canReach 1 := ⟨by decide, by decide, by decide +kernel⟩
set_option maxHeartbeats 4000000 in
theorem ok_X0_canReach (l : Launch) (g : zGd) (m : zMm) (a0 : Option Nat) (a1 : Int32) (z0 : Int32) (h : f_X0_canReach g m a0 a1 = some z0) : zCT l yX0_canReach cX0_canReach 2 (some .boolean) 3 63 g m [va_rf a0, .int a1] (some (.int z0)) g m := by
  refine zCT.of (own := "QuiverKin") (mn := "canReach") (by decide +kernel) rfl rfl (zla_r (zla_i zla_0)) (zls_r (zls_i zls_0)) (by decide) (fun X hxl hxg hxf hxt hxr hxn => ?_)
  have Kret : ∀ (y0 : Int32), y0 = z0 → zRe X g m (some (.int y0)) := by
    intro y0 e; cases e; exact ⟨hxf, hxr, hxn⟩
  subst hxl
  show zG X cX0_canReach 2 "QuiverKin" "canReach" 3 63 0 [(0, va_rf a0), (1, .int a1)] [] g m
  unfold f_X0_canReach at h
  refine g_aload_n dX0_canReach_0 0 rfl ?_
  refine g_iload_n dX0_canReach_1 1 rfl ?_
  refine g_cVRv (rv := fun x : Int32 => Value.int x) [.int a1] (fun x0 e0 => ok_X0_isKin (xl X) g m a0 a1 x0 e0) zc0 (by decide) (lw_V q893 q895 qs25 q123 q896) rfl hy_X0_isKin rfl ⟨by decide, by decide⟩ rfl zc_0 (by decide) dX0_canReach_2 h (fun v1 h => ?_)
  refine g_if_eq 29 dX0_canReach_5 (by decide) (fun c => ?_) (fun c => ?_)
  · have h := zite_p h c
    refine g_iconst (v := (0 : Int32)) dX0_canReach_29 (by decide) ?_
    refine g_zret dX0_canReach_30 hxt rfl ?_
    have e := Option.some.inj h
    exact Kret _ e
  · have h := zite_n h c
    refine g_aload_n dX0_canReach_8 0 rfl ?_
    refine gf_r zfd_0_0 q239  (fun _ h9 => h9) dX0_canReach_9 h (fun r2 h => ?_)
    refine gf_rN zfd_1_1 q179  (fun _ h9 => h9) dX0_canReach_12 h (fun r3 h => ?_)
    refine g_bipush (v := (14 : Int32)) dX0_canReach_15 (by decide) ?_
    refine g_iald dX0_canReach_17 h (fun v4 h => ?_)
    refine g_iload_n dX0_canReach_18 1 rfl ?_
    refine g_cSRv (rv := fun x : Int32 => Value.int x) [.int v4, .int a1] (fun x0 e0 => ok_X0_has (xl X) g m v4 a1 x0 e0) (lw_S q897 q898 q123 q899) hy_X0_has rfl ⟨by decide, by decide⟩ rfl zc_0 (by decide) dX0_canReach_19 h (fun v5 h => ?_)
    refine g_if_ne 29 dX0_canReach_22 (by decide) (fun c => ?_) (fun c => ?_)
    · have h := zite_n h c
      refine g_iconst (v := (0 : Int32)) dX0_canReach_29 (by decide) ?_
      refine g_zret dX0_canReach_30 hxt rfl ?_
      have e := Option.some.inj h
      exact Kret _ e
    · have h := zite_p h c
      refine g_iconst (v := (1 : Int32)) dX0_canReach_25 (by decide) ?_
      refine g_goto 30 dX0_canReach_26 (by decide) ?_
      refine g_zret dX0_canReach_30 hxt rfl ?_
      have e := Option.some.inj h
      exact Kret _ e
/-! QuiverKin.reaches -/
def f_X0_reaches (g : zGd) (m : zMm) (a0 : Option Nat) (a1 : Int32) : Option (zMm) :=
(zald 101 g m a0 ((8 : Int32) + a1)).bind fun v1 =>
(f_J7_min (99 : Int32) (v1 + (1 : Int32))).bind fun v2 =>
(zast 101 g m a0 ((8 : Int32) + a1) v2).bind fun m3 =>
some (m3)
theorem hy_X0_reaches : zHy yX0_reaches 2 := ⟨by decide, by decide, by decide +kernel⟩
set_option maxHeartbeats 4000000 in
theorem ok_X0_reaches (l : Launch) (g : zGd) (m : zMm) (a0 : Option Nat) (a1 : Int32) (m0 : zMm) (h : f_X0_reaches g m a0 a1 = some m0) : zCT l yX0_reaches cX0_reaches 2 none 2 41 g m [va_rf a0, .int a1] none g m0 := by
  refine zCT.of (own := "QuiverKin") (mn := "reaches") (by decide +kernel) rfl rfl (zla_r (zla_i zla_0)) (zls_r (zls_i zls_0)) (by decide) (fun X hxl hxg hxf hxt hxr hxn => ?_)
  have Kret : ∀ (y0 : zMm), y0 = m0 → zRe X g y0 none := by
    intro y0 e; cases e; exact ⟨hxf, hxr, hxn⟩
  subst hxl
  show zG X cX0_reaches 2 "QuiverKin" "reaches" 2 41 0 [(0, va_rf a0), (1, .int a1)] [] g m
  unfold f_X0_reaches at h
  refine g_aload_n dX0_reaches_0 0 rfl ?_
  refine g_bipush (v := (8 : Int32)) dX0_reaches_1 (by decide) ?_
  refine g_iload_n dX0_reaches_3 1 rfl ?_
  refine g_iadd dX0_reaches_4 ?_
  refine g_bipush (v := (99 : Int32)) dX0_reaches_5 (by decide) ?_
  refine g_aload_n dX0_reaches_7 0 rfl ?_
  refine g_bipush (v := (8 : Int32)) dX0_reaches_8 (by decide) ?_
  refine g_iload_n dX0_reaches_10 1 rfl ?_
  refine g_iadd dX0_reaches_11 ?_
  refine g_iald dX0_reaches_12 h (fun v1 h => ?_)
  refine g_iconst (v := (1 : Int32)) dX0_reaches_13 (by decide) ?_
  refine g_iadd dX0_reaches_14 ?_
  refine g_cSRv (rv := fun x : Int32 => Value.int x) [.int (99 : Int32), .int (v1 + (1 : Int32))] (fun x0 e0 => ok_J7_min (xl X) g m (99 : Int32) (v1 + (1 : Int32)) x0 e0) (lw_S q907 q485 q136 q486) hy_J7_min rfl ⟨by decide, by decide⟩ rfl (zc_i (zc_r zc_0)) (by decide) dX0_reaches_15 h (fun v2 h => ?_)
  refine g_iast dX0_reaches_18 h (fun m3 h => ?_)
  refine g_vret dX0_reaches_19 hxt ?_
  have e := Option.some.inj h
  exact Kret _ e
/-! QuiverKin$State.keeps -/
def b_X1_keeps_13 (g : zGd) (a0 : Option Nat) : Int32 × zMm → Option ((zMm) ⊕ (Int32 × zMm)) := fun (v8, m9) =>
if (30 : Int32) ≤ v8 then (some (.inl m9))
else ((zgr g m9 1 10 a0).bind fun r10 =>
(zaldr 106 g m9 r10 v8).bind fun r11 =>
(zgr g m9 1 10 a0).bind fun r12 =>
(zaldr 106 g m9 r12 (v8 - (1 : Int32))).bind fun r13 =>
(f_X1_copy g m9 r11 r13).bind fun m14 =>
zlt (v8 + (1 : Int32)) fun v15 =>
some (.inr (v15, m14)))
def f_X1_keeps (g : zGd) (m : zMm) (a0 : Option Nat) : Option (zMm) :=
(zgr g m 1 0 a0).bind fun r1 =>
(zald 101 g m r1 (3 : Int32)).bind fun v2 =>
((if v2 = (30 : Int32) then ((zLoop (b_X1_keeps_13 g a0) zFuel ((1 : Int32), m)).bind fun m6 =>
(zgr g m6 1 0 a0).bind fun r16 =>
(zald 101 g m6 r16 (3 : Int32)).bind fun v17 =>
(zast 101 g m6 r16 (3 : Int32) (v17 - (1 : Int32))).bind fun m18 =>
some (m18))
else (some (m)) : Option (zMm))).bind fun m4 =>
(zgr g m4 1 1 a0).bind fun r19 =>
(zgr g m4 1 10 a0).bind fun r20 =>
(zgr g m4 1 0 a0).bind fun r21 =>
(zald 101 g m4 r21 (3 : Int32)).bind fun v22 =>
(zaldr 106 g m4 r20 v22).bind fun r23 =>
(f_X1_copy g m4 r19 r23).bind fun m24 =>
(zgr g m24 1 0 a0).bind fun r25 =>
(zald 101 g m24 r25 (3 : Int32)).bind fun v26 =>
(zast 101 g m24 r25 (3 : Int32) (v26 + (1 : Int32))).bind fun m27 =>
some (m27)
theorem hy_X1_keeps : zHy yX1_keeps 0 := ⟨by decide, by decide, by decide +kernel⟩
set_option maxHeartbeats 4000000 in
theorem ok_X1_keeps (l : Launch) (g : zGd) (m : zMm) (a0 : Option Nat) (m0 : zMm) (h : f_X1_keeps g m a0 = some m0) : zCT l yX1_keeps cX1_keeps 2 none 2 61 g m [va_rf a0] none g m0 := by
  refine zCT.of (own := "QuiverKin$State") (mn := "keeps") (by decide +kernel) rfl rfl (zla_r zla_0) (zls_r zls_0) (by decide) (fun X hxl hxg hxf hxt hxr hxn => ?_)
  have Kret : ∀ (y0 : zMm), y0 = m0 → zRe X g y0 none := by
    intro y0 e; cases e; exact ⟨hxf, hxr, hxn⟩
  subst hxl
  show zG X cX1_keeps 2 "QuiverKin$State" "keeps" 2 61 0 [(0, va_rf a0)] [] g m
  unfold f_X1_keeps at h
  refine g_aload_n dX1_keeps_0 0 rfl ?_
  refine gf_r zfd_1_0 q176  (fun _ h9 => h9) dX1_keeps_1 h (fun r1 h => ?_)
  refine g_iconst (v := (3 : Int32)) dX1_keeps_4 (by decide) ?_
  refine g_iald dX1_keeps_5 h (fun v2 h => ?_)
  refine g_bipush (v := (30 : Int32)) dX1_keeps_6 (by decide) ?_
  obtain ⟨o3, h1, h2⟩ := zB_e h
  have K3 : ∀ (m4 : zMm), o3 = m4 → zG X cX1_keeps 2 "QuiverKin$State" "keeps" 2 61 52 [(0, va_rf a0)] [] g m4 := by
    intro m4 e
    rw [e] at h2
    have h := h2
    refine g_aload_n dX1_keeps_52 0 rfl ?_
    refine gf_r zfd_1_1 q178  (fun _ h9 => h9) dX1_keeps_53 h (fun r19 h => ?_)
    refine g_aload_n dX1_keeps_56 0 rfl ?_
    refine gf_r zfd_1_10 q196  (fun _ h9 => h9) dX1_keeps_57 h (fun r20 h => ?_)
    refine g_aload_n dX1_keeps_60 0 rfl ?_
    refine gf_r zfd_1_0 q176  (fun _ h9 => h9) dX1_keeps_61 h (fun r21 h => ?_)
    refine g_iconst (v := (3 : Int32)) dX1_keeps_64 (by decide) ?_
    refine g_iald dX1_keeps_65 h (fun v22 h => ?_)
    refine g_aald 5 rfl rfl (by decide)  dX1_keeps_66 h (fun r23 h => ?_)
    refine g_cSMn [va_rf r19, va_rf r23] (fun m0 e0 => ok_X1_copy (xl X) g m4 r19 r23 m0 e0) (lw_S q230 q231 q124 q232) hy_X1_copy rfl ⟨by decide, by decide⟩ rfl zc_0 (by decide) dX1_keeps_67 h (fun m24 h => ?_)
    refine g_aload_n dX1_keeps_70 0 rfl ?_
    refine gf_r zfd_1_0 q176  (fun _ h9 => h9) dX1_keeps_71 h (fun r25 h => ?_)
    refine g_iconst (v := (3 : Int32)) dX1_keeps_74 (by decide) ?_
    refine g_dup2 dX1_keeps_75 rfl (zcat_r _) ?_
    refine g_iald dX1_keeps_76 h (fun v26 h => ?_)
    refine g_iconst (v := (1 : Int32)) dX1_keeps_77 (by decide) ?_
    refine g_iadd dX1_keeps_78 ?_
    refine g_iast dX1_keeps_79 h (fun m27 h => ?_)
    refine g_vret dX1_keeps_80 hxt ?_
    have e := Option.some.inj h
    exact Kret _ e
  have h := h1
  refine g_icmp_ne 52 dX1_keeps_8 (by decide) (fun c => ?_) (fun c => ?_)
  · have h := zite_n h c
    refine zG.sub [0] rfl ?_
    have e := Option.some.inj h
    exact K3 _ e.symm
  · have h := zite_p h c
    refine g_iconst (v := (1 : Int32)) dX1_keeps_11 (by decide) ?_
    refine g_istore_n [(1, .int (1 : Int32)), (0, va_rf a0)] dX1_keeps_12 (by decide) (zf_r zf_0) rfl ?_
    obtain ⟨o5, h1, h2⟩ := zB_e h
    have K5 : ∀ (m6 : zMm), o5 = m6 → zG X cX1_keeps 2 "QuiverKin$State" "keeps" 2 61 42 [(0, va_rf a0)] [] g m6 := by
      intro m6 e
      rw [e] at h2
      have h := h2
      refine g_aload_n dX1_keeps_42 0 rfl ?_
      refine gf_r zfd_1_0 q176  (fun _ h9 => h9) dX1_keeps_43 h (fun r16 h => ?_)
      refine g_iconst (v := (3 : Int32)) dX1_keeps_46 (by decide) ?_
      refine g_dup2 dX1_keeps_47 rfl (zcat_r _) ?_
      refine g_iald dX1_keeps_48 h (fun v17 h => ?_)
      refine g_iconst (v := (1 : Int32)) dX1_keeps_49 (by decide) ?_
      refine g_isub dX1_keeps_50 ?_
      refine g_iast dX1_keeps_51 h (fun m18 h => ?_)
      refine zG.sub [0] rfl ?_
      have e := Option.some.inj h
      exact K3 _ e.symm
    refine zG.sub [1, 0] rfl ?_
    refine zLoop_ok (Φ := (fun (q : Int32 × zMm) => match q with | (v8, m9) => zG X cX1_keeps 2 "QuiverKin$State" "keeps" 2 61 13 [(0, va_rf a0), (1, .int v8)] [] g m9)) o5 ?_ zFuel _ h1
    rintro ⟨v8, m9⟩ x7 h hl7 hr7
    unfold b_X1_keeps_13 at h
    have K7 : ∀ (v8 : Int32) (m9 : zMm), x7 = .inr (v8, m9) → zG X cX1_keeps 2 "QuiverKin$State" "keeps" 2 61 13 [(0, va_rf a0), (1, .int v8)] [] g m9 := by
      intro v8 m9 e
      exact hr7 _ e
    show zG X cX1_keeps 2 "QuiverKin$State" "keeps" 2 61 13 [(0, va_rf a0), (1, .int v8)] [] g m9
    refine g_iload_n dX1_keeps_13 1 rfl ?_
    refine g_bipush (v := (30 : Int32)) dX1_keeps_14 (by decide) ?_
    refine g_icmp_ge 42 dX1_keeps_16 (by decide) (fun c => ?_) (fun c => ?_)
    · have h := zite_p h c
      refine zG.sub [0] rfl ?_
      have e := Option.some.inj h
      have e := hl7 _ e.symm
      exact K5 _ e.symm
    · have h := zite_n h c
      refine g_aload_n dX1_keeps_19 0 rfl ?_
      refine gf_r zfd_1_10 q196  (fun _ h9 => h9) dX1_keeps_20 h (fun r10 h => ?_)
      refine g_iload_n dX1_keeps_23 1 rfl ?_
      refine g_aald 5 rfl rfl (by decide)  dX1_keeps_24 h (fun r11 h => ?_)
      refine g_aload_n dX1_keeps_25 0 rfl ?_
      refine gf_r zfd_1_10 q196  (fun _ h9 => h9) dX1_keeps_26 h (fun r12 h => ?_)
      refine g_iload_n dX1_keeps_29 1 rfl ?_
      refine g_iconst (v := (1 : Int32)) dX1_keeps_30 (by decide) ?_
      refine g_isub dX1_keeps_31 ?_
      refine g_aald 5 rfl rfl (by decide)  dX1_keeps_32 h (fun r13 h => ?_)
      refine g_cSMn [va_rf r11, va_rf r13] (fun m0 e0 => ok_X1_copy (xl X) g m9 r11 r13 m0 e0) (lw_S q230 q231 q124 q232) hy_X1_copy rfl ⟨by decide, by decide⟩ rfl zc_0 (by decide) dX1_keeps_33 h (fun m14 h => ?_)
      refine g_iinc (v := (1 : Int32)) [(0, va_rf a0)] dX1_keeps_36 1 rfl (by decide) (by decide) (zf_r (zf_i zf_0)) rfl h (fun v15 h => ?_)
      refine g_goto 13 dX1_keeps_39 (by decide) ?_
      refine zG.sub [1, 0] rfl ?_
      have e := Option.some.inj h
      exact K7 _ _ e.symm
/-! QuiverKin.reach -/
def f_X0_reach (g : zGd) (m : zMm) (a0 : Option Nat) (a1 : Int32) : Option (Int32 × zMm) :=
(zrc g 0 a0 (f_X0_canReach g m a0 a1)).bind fun v1 =>
if v1 = 0 then (some (((-1 : Int32), m)))
else ((zgr g m 0 0 a0).bind fun r2 =>
(zrc g 1 r2 (f_X1_keeps g m r2)).bind fun m3 =>
(zgr g m3 0 0 a0).bind fun r4 =>
(zgr g m3 1 1 r4).bind fun r5 =>
(f_X0_reaches g m3 r5 a1).bind fun m6 =>
(zgr g m6 0 0 a0).bind fun r7 =>
(zgr g m6 1 1 r7).bind fun r8 =>
(zald 101 g m6 r8 ((8 : Int32) + a1)).bind fun v9 =>
some ((v9, m6)))
theorem hy_X0_reach : zHy yX0_reach 1 := ⟨by decide, by decide, by decide +kernel⟩
set_option maxHeartbeats 4000000 in
theorem ok_X0_reach (l : Launch) (g : zGd) (m : zMm) (a0 : Option Nat) (a1 : Int32) (z0 : Int32) (m0 : zMm) (h : f_X0_reach g m a0 a1 = some (z0, m0)) : zCT l yX0_reach cX0_reach 2 (some .int) 4 84 g m [va_rf a0, .int a1] (some (.int z0)) g m0 := by
  refine zCT.of (own := "QuiverKin") (mn := "reach") (by decide +kernel) rfl rfl (zla_r (zla_i zla_0)) (zls_r (zls_i zls_0)) (by decide) (fun X hxl hxg hxf hxt hxr hxn => ?_)
  have Kret : ∀ (y0 : Int32) (y1 : zMm), (y0, y1) = (z0, m0) → zRe X g y1 (some (.int y0)) := by
    intro y0 y1 e; cases e; exact ⟨hxf, hxr, hxn⟩
  subst hxl
  show zG X cX0_reach 2 "QuiverKin" "reach" 4 84 0 [(0, va_rf a0), (1, .int a1)] [] g m
  unfold f_X0_reach at h
  refine g_aload_n dX0_reach_0 0 rfl ?_
  refine g_iload_n dX0_reach_1 1 rfl ?_
  refine g_cVRv (rv := fun x : Int32 => Value.int x) [.int a1] (fun x0 e0 => ok_X0_canReach (xl X) g m a0 a1 x0 e0) zc0 (by decide) (lw_V q889 q891 qs24 q123 q892) rfl hy_X0_canReach rfl ⟨by decide, by decide⟩ rfl zc_0 (by decide) dX0_reach_2 h (fun v1 h => ?_)
  refine g_if_ne 10 dX0_reach_5 (by decide) (fun c => ?_) (fun c => ?_)
  · have h := zite_n h c
    refine g_aload_n dX0_reach_10 0 rfl ?_
    refine gf_r zfd_0_0 q239  (fun _ h9 => h9) dX0_reach_11 h (fun r2 h => ?_)
    refine g_cVMn [] (fun m0 e0 => ok_X1_keeps (xl X) g m r2 m0 e0) zc1 (by decide) (lw_V q900 q901 q902 q124 q903) rfl hy_X1_keeps rfl ⟨by decide, by decide⟩ rfl zc_0 (by decide) dX0_reach_14 h (fun m3 h => ?_)
    refine g_aload_n dX0_reach_17 0 rfl ?_
    refine gf_r zfd_0_0 q239  (fun _ h9 => h9) dX0_reach_18 h (fun r4 h => ?_)
    refine gf_rN zfd_1_1 q179  (fun _ h9 => h9) dX0_reach_21 h (fun r5 h => ?_)
    refine g_iload_n dX0_reach_24 1 rfl ?_
    refine g_cSMn [va_rf r5, .int a1] (fun m0 e0 => ok_X0_reaches (xl X) g m3 r5 a1 m0 e0) (lw_S q904 q905 q123 q906) hy_X0_reaches rfl ⟨by decide, by decide⟩ rfl zc_0 (by decide) dX0_reach_25 h (fun m6 h => ?_)
    refine g_aload_n dX0_reach_28 0 rfl ?_
    refine gf_r zfd_0_0 q239  (fun _ h9 => h9) dX0_reach_29 h (fun r7 h => ?_)
    refine gf_rN zfd_1_1 q179  (fun _ h9 => h9) dX0_reach_32 h (fun r8 h => ?_)
    refine g_bipush (v := (8 : Int32)) dX0_reach_35 (by decide) ?_
    refine g_iload_n dX0_reach_37 1 rfl ?_
    refine g_iadd dX0_reach_38 ?_
    refine g_iald dX0_reach_39 h (fun v9 h => ?_)
    refine g_iret dX0_reach_40 hxt ?_
    have e := Option.some.inj h
    exact Kret _ _ e
  · have h := zite_p h c
    refine g_iconst (v := (-1 : Int32)) dX0_reach_8 (by decide) ?_
    refine g_iret dX0_reach_9 hxt ?_
    have e := Option.some.inj h
    exact Kret _ _ e
/-! QuiverKin.canPut -/
def f_X0_canPut (g : zGd) (m : zMm) (a0 : Option Nat) (a1 : Int32) (a2 : Int32) : Option (Int32) :=
(zrc g 0 a0 (f_X0_isKin g m a0 a1)).bind fun v1 =>
if v1 = 0 then (some ((0 : Int32)))
else ((zgr g m 0 0 a0).bind fun r2 =>
(zgr g m 1 1 r2).bind fun r3 =>
(zald 101 g m r3 ((8 : Int32) + a1)).bind fun v4 =>
if v4 < a2 then (some ((0 : Int32)))
else (some ((1 : Int32))))
theorem hy_X0_canPut : zHy yX0_canPut 2 := ⟨by decide, by decide, by decide +kernel⟩
set_option maxHeartbeats 4000000 in
theorem ok_X0_canPut (l : Launch) (g : zGd) (m : zMm) (a0 : Option Nat) (a1 : Int32) (a2 : Int32) (z0 : Int32) (h : f_X0_canPut g m a0 a1 a2 = some z0) : zCT l yX0_canPut cX0_canPut 3 (some .boolean) 3 63 g m [va_rf a0, .int a1, .int a2] (some (.int z0)) g m := by
  refine zCT.of (own := "QuiverKin") (mn := "canPut") (by decide +kernel) rfl rfl (zla_r (zla_i (zla_i zla_0))) (zls_r (zls_i (zls_i zls_0))) (by decide) (fun X hxl hxg hxf hxt hxr hxn => ?_)
  have Kret : ∀ (y0 : Int32), y0 = z0 → zRe X g m (some (.int y0)) := by
    intro y0 e; cases e; exact ⟨hxf, hxr, hxn⟩
  subst hxl
  show zG X cX0_canPut 3 "QuiverKin" "canPut" 3 63 0 [(0, va_rf a0), (1, .int a1), (2, .int a2)] [] g m
  unfold f_X0_canPut at h
  refine g_aload_n dX0_canPut_0 0 rfl ?_
  refine g_iload_n dX0_canPut_1 1 rfl ?_
  refine g_cVRv (rv := fun x : Int32 => Value.int x) [.int a1] (fun x0 e0 => ok_X0_isKin (xl X) g m a0 a1 x0 e0) zc0 (by decide) (lw_V q893 q895 qs25 q123 q896) rfl hy_X0_isKin rfl ⟨by decide, by decide⟩ rfl zc_0 (by decide) dX0_canPut_2 h (fun v1 h => ?_)
  refine g_if_eq 28 dX0_canPut_5 (by decide) (fun c => ?_) (fun c => ?_)
  · have h := zite_p h c
    refine g_iconst (v := (0 : Int32)) dX0_canPut_28 (by decide) ?_
    refine g_zret dX0_canPut_29 hxt rfl ?_
    have e := Option.some.inj h
    exact Kret _ e
  · have h := zite_n h c
    refine g_aload_n dX0_canPut_8 0 rfl ?_
    refine gf_r zfd_0_0 q239  (fun _ h9 => h9) dX0_canPut_9 h (fun r2 h => ?_)
    refine gf_rN zfd_1_1 q179  (fun _ h9 => h9) dX0_canPut_12 h (fun r3 h => ?_)
    refine g_bipush (v := (8 : Int32)) dX0_canPut_15 (by decide) ?_
    refine g_iload_n dX0_canPut_17 1 rfl ?_
    refine g_iadd dX0_canPut_18 ?_
    refine g_iald dX0_canPut_19 h (fun v4 h => ?_)
    refine g_iload_n dX0_canPut_20 2 rfl ?_
    refine g_icmp_lt 28 dX0_canPut_21 (by decide) (fun c => ?_) (fun c => ?_)
    · have h := zite_p h c
      refine g_iconst (v := (0 : Int32)) dX0_canPut_28 (by decide) ?_
      refine g_zret dX0_canPut_29 hxt rfl ?_
      have e := Option.some.inj h
      exact Kret _ e
    · have h := zite_n h c
      refine g_iconst (v := (1 : Int32)) dX0_canPut_24 (by decide) ?_
      refine g_goto 29 dX0_canPut_25 (by decide) ?_
      refine g_zret dX0_canPut_29 hxt rfl ?_
      have e := Option.some.inj h
      exact Kret _ e
/-! QuiverKin.down -/
def f_X0_down (g : zGd) (m : zMm) (a0 : Option Nat) (a1 : Int32) (a2 : Int32) : Option (Int32 × zMm) :=
(f_X0_in a2 (1 : Int32) (99 : Int32)).bind fun v1 =>
if v1 = 0 then (some (((0 : Int32), m)))
else ((zrc g 0 a0 (f_X0_canPut g m a0 a1 a2)).bind fun v2 =>
if v2 = 0 then (some (((0 : Int32), m)))
else ((zgr g m 0 0 a0).bind fun r3 =>
(zrc g 1 r3 (f_X1_keeps g m r3)).bind fun m4 =>
(zgr g m4 0 0 a0).bind fun r5 =>
(zgr g m4 1 1 r5).bind fun r6 =>
zlt ((8 : Int32) + a1) fun v7 =>
(zald 101 g m4 r6 v7).bind fun v8 =>
(zast 101 g m4 r6 v7 (v8 - a2)).bind fun m9 =>
some (((1 : Int32), m9))))
theorem hy_X0_down : zHy yX0_down 2 := ⟨by decide, by decide, by decide +kernel⟩
set_option maxHeartbeats 4000000 in
theorem ok_X0_down (l : Launch) (g : zGd) (m : zMm) (a0 : Option Nat) (a1 : Int32) (a2 : Int32) (z0 : Int32) (m0 : zMm) (h : f_X0_down g m a0 a1 a2 = some (z0, m0)) : zCT l yX0_down cX0_down 3 (some .boolean) 4 85 g m [va_rf a0, .int a1, .int a2] (some (.int z0)) g m0 := by
  refine zCT.of (own := "QuiverKin") (mn := "down") (by decide +kernel) rfl rfl (zla_r (zla_i (zla_i zla_0))) (zls_r (zls_i (zls_i zls_0))) (by decide) (fun X hxl hxg hxf hxt hxr hxn => ?_)
  have Kret : ∀ (y0 : Int32) (y1 : zMm), (y0, y1) = (z0, m0) → zRe X g y1 (some (.int y0)) := by
    intro y0 y1 e; cases e; exact ⟨hxf, hxr, hxn⟩
  subst hxl
  show zG X cX0_down 3 "QuiverKin" "down" 4 85 0 [(0, va_rf a0), (1, .int a1), (2, .int a2)] [] g m
  unfold f_X0_down at h
  refine g_iload_n dX0_down_0 2 rfl ?_
  refine g_iconst (v := (1 : Int32)) dX0_down_1 (by decide) ?_
  refine g_bipush (v := (99 : Int32)) dX0_down_2 (by decide) ?_
  refine g_cSRv (rv := fun x : Int32 => Value.int x) [.int a2, .int (1 : Int32), .int (99 : Int32)] (fun x0 e0 => ok_X0_in (xl X) g m a2 (1 : Int32) (99 : Int32) x0 e0) (lw_S q312 q313 q123 q314) hy_X0_in rfl ⟨by decide, by decide⟩ rfl zc_0 (by decide) dX0_down_4 h (fun v1 h => ?_)
  refine g_if_eq 19 dX0_down_7 (by decide) (fun c => ?_) (fun c => ?_)
  · have h := zite_p h c
    refine g_iconst (v := (0 : Int32)) dX0_down_19 (by decide) ?_
    refine g_zret dX0_down_20 hxt rfl ?_
    have e := Option.some.inj h
    exact Kret _ _ e
  · have h := zite_n h c
    refine g_aload_n dX0_down_10 0 rfl ?_
    refine g_iload_n dX0_down_11 1 rfl ?_
    refine g_iload_n dX0_down_12 2 rfl ?_
    refine g_cVRv (rv := fun x : Int32 => Value.int x) [.int a1, .int a2] (fun x0 e0 => ok_X0_canPut (xl X) g m a0 a1 a2 x0 e0) zc0 (by decide) (lw_V q912 q914 qs26 q123 q915) rfl hy_X0_canPut rfl ⟨by decide, by decide⟩ rfl zc_0 (by decide) dX0_down_13 h (fun v2 h => ?_)
    refine g_if_ne 21 dX0_down_16 (by decide) (fun c => ?_) (fun c => ?_)
    · have h := zite_n h c
      refine g_aload_n dX0_down_21 0 rfl ?_
      refine gf_r zfd_0_0 q239  (fun _ h9 => h9) dX0_down_22 h (fun r3 h => ?_)
      refine g_cVMn [] (fun m0 e0 => ok_X1_keeps (xl X) g m r3 m0 e0) zc1 (by decide) (lw_V q900 q901 q902 q124 q903) rfl hy_X1_keeps rfl ⟨by decide, by decide⟩ rfl zc_0 (by decide) dX0_down_25 h (fun m4 h => ?_)
      refine g_aload_n dX0_down_28 0 rfl ?_
      refine gf_r zfd_0_0 q239  (fun _ h9 => h9) dX0_down_29 h (fun r5 h => ?_)
      refine gf_rN zfd_1_1 q179  (fun _ h9 => h9) dX0_down_32 h (fun r6 h => ?_)
      refine g_bipush (v := (8 : Int32)) dX0_down_35 (by decide) ?_
      refine g_iload_n dX0_down_37 1 rfl ?_
      refine g_iadd dX0_down_38 ?_
      refine g_leti h (fun v7 h => ?_)
      refine g_dup2 dX0_down_39 rfl (zcat_r _) ?_
      refine g_iald dX0_down_40 h (fun v8 h => ?_)
      refine g_iload_n dX0_down_41 2 rfl ?_
      refine g_isub dX0_down_42 ?_
      refine g_iast dX0_down_43 h (fun m9 h => ?_)
      refine g_iconst (v := (1 : Int32)) dX0_down_44 (by decide) ?_
      refine g_zret dX0_down_45 hxt rfl ?_
      have e := Option.some.inj h
      exact Kret _ _ e
    · have h := zite_p h c
      refine g_iconst (v := (0 : Int32)) dX0_down_19 (by decide) ?_
      refine g_zret dX0_down_20 hxt rfl ?_
      have e := Option.some.inj h
      exact Kret _ _ e
/-! QuiverKin.strap -/
def f_X0_strap (g : zGd) (m : zMm) (a0 : Option Nat) (a1 : Int32) : Option (Int32 × zMm) :=
(zrc g 0 a0 (f_X0_isKin g m a0 a1)).bind fun v1 =>
if v1 = 0 then (some (((0 : Int32), m)))
else ((zgr g m 0 0 a0).bind fun r2 =>
(zrc g 1 r2 (f_X1_keeps g m r2)).bind fun m3 =>
(zgr g m3 0 0 a0).bind fun r4 =>
(zgr g m3 1 1 r4).bind fun r5 =>
(zald 101 g m3 r5 (14 : Int32)).bind fun v6 =>
(zast 101 g m3 r5 (14 : Int32) (v6 ^^^ (zshl (1 : Int32) a1))).bind fun m7 =>
some (((1 : Int32), m7)))
theorem hy_X0_strap : zHy yX0_strap 1 := ⟨by decide, by decide, by decide +kernel⟩
set_option maxHeartbeats 4000000 in
theorem ok_X0_strap (l : Launch) (g : zGd) (m : zMm) (a0 : Option Nat) (a1 : Int32) (z0 : Int32) (m0 : zMm) (h : f_X0_strap g m a0 a1 = some (z0, m0)) : zCT l yX0_strap cX0_strap 2 (some .boolean) 3 82 g m [va_rf a0, .int a1] (some (.int z0)) g m0 := by
  refine zCT.of (own := "QuiverKin") (mn := "strap") (by decide +kernel) rfl rfl (zla_r (zla_i zla_0)) (zls_r (zls_i zls_0)) (by decide) (fun X hxl hxg hxf hxt hxr hxn => ?_)
  have Kret : ∀ (y0 : Int32) (y1 : zMm), (y0, y1) = (z0, m0) → zRe X g y1 (some (.int y0)) := by
    intro y0 y1 e; cases e; exact ⟨hxf, hxr, hxn⟩
  subst hxl
  show zG X cX0_strap 2 "QuiverKin" "strap" 3 82 0 [(0, va_rf a0), (1, .int a1)] [] g m
  unfold f_X0_strap at h
  refine g_aload_n dX0_strap_0 0 rfl ?_
  refine g_iload_n dX0_strap_1 1 rfl ?_
  refine g_cVRv (rv := fun x : Int32 => Value.int x) [.int a1] (fun x0 e0 => ok_X0_isKin (xl X) g m a0 a1 x0 e0) zc0 (by decide) (lw_V q893 q895 qs25 q123 q896) rfl hy_X0_isKin rfl ⟨by decide, by decide⟩ rfl zc_0 (by decide) dX0_strap_2 h (fun v1 h => ?_)
  refine g_if_ne 10 dX0_strap_5 (by decide) (fun c => ?_) (fun c => ?_)
  · have h := zite_n h c
    refine g_aload_n dX0_strap_10 0 rfl ?_
    refine gf_r zfd_0_0 q239  (fun _ h9 => h9) dX0_strap_11 h (fun r2 h => ?_)
    refine g_cVMn [] (fun m0 e0 => ok_X1_keeps (xl X) g m r2 m0 e0) zc1 (by decide) (lw_V q900 q901 q902 q124 q903) rfl hy_X1_keeps rfl ⟨by decide, by decide⟩ rfl zc_0 (by decide) dX0_strap_14 h (fun m3 h => ?_)
    refine g_aload_n dX0_strap_17 0 rfl ?_
    refine gf_r zfd_0_0 q239  (fun _ h9 => h9) dX0_strap_18 h (fun r4 h => ?_)
    refine gf_rN zfd_1_1 q179  (fun _ h9 => h9) dX0_strap_21 h (fun r5 h => ?_)
    refine g_bipush (v := (14 : Int32)) dX0_strap_24 (by decide) ?_
    refine g_dup2 dX0_strap_26 rfl (zcat_r _) ?_
    refine g_iald dX0_strap_27 h (fun v6 h => ?_)
    refine g_iconst (v := (1 : Int32)) dX0_strap_28 (by decide) ?_
    refine g_iload_n dX0_strap_29 1 rfl ?_
    refine g_ishl dX0_strap_30 ?_
    refine g_ixor dX0_strap_31 ?_
    refine g_iast dX0_strap_32 h (fun m7 h => ?_)
    refine g_iconst (v := (1 : Int32)) dX0_strap_33 (by decide) ?_
    refine g_zret dX0_strap_34 hxt rfl ?_
    have e := Option.some.inj h
    exact Kret _ _ e
  · have h := zite_p h c
    refine g_iconst (v := (0 : Int32)) dX0_strap_8 (by decide) ?_
    refine g_zret dX0_strap_9 hxt rfl ?_
    have e := Option.some.inj h
    exact Kret _ _ e
/-! QuiverKin.canSwap -/
def f_X0_canSwap (g : zGd) (m : zMm) (a0 : Option Nat) (a1 : Int32) (a2 : Int32) : Option (Int32) :=
(zrc g 0 a0 (f_X0_isKin g m a0 a1)).bind fun v1 =>
if v1 = 0 then (some ((0 : Int32)))
else ((zrc g 0 a0 (f_X0_isKin g m a0 a2)).bind fun v2 =>
if v2 = 0 then (some ((0 : Int32)))
else (if a1 = a2 then (some ((0 : Int32)))
else (some ((1 : Int32)))))
theorem hy_X0_canSwap : zHy yX0_canSwap 2 := ⟨by decide, by decide, by decide +kernel⟩
set_option maxHeartbeats 4000000 in
theorem ok_X0_canSwap (l : Launch) (g : zGd) (m : zMm) (a0 : Option Nat) (a1 : Int32) (a2 : Int32) (z0 : Int32) (h : f_X0_canSwap g m a0 a1 a2 = some z0) : zCT l yX0_canSwap cX0_canSwap 3 (some .boolean) 3 63 g m [va_rf a0, .int a1, .int a2] (some (.int z0)) g m := by
  refine zCT.of (own := "QuiverKin") (mn := "canSwap") (by decide +kernel) rfl rfl (zla_r (zla_i (zla_i zla_0))) (zls_r (zls_i (zls_i zls_0))) (by decide) (fun X hxl hxg hxf hxt hxr hxn => ?_)
  have Kret : ∀ (y0 : Int32), y0 = z0 → zRe X g m (some (.int y0)) := by
    intro y0 e; cases e; exact ⟨hxf, hxr, hxn⟩
  subst hxl
  show zG X cX0_canSwap 3 "QuiverKin" "canSwap" 3 63 0 [(0, va_rf a0), (1, .int a1), (2, .int a2)] [] g m
  unfold f_X0_canSwap at h
  refine g_aload_n dX0_canSwap_0 0 rfl ?_
  refine g_iload_n dX0_canSwap_1 1 rfl ?_
  refine g_cVRv (rv := fun x : Int32 => Value.int x) [.int a1] (fun x0 e0 => ok_X0_isKin (xl X) g m a0 a1 x0 e0) zc0 (by decide) (lw_V q893 q895 qs25 q123 q896) rfl hy_X0_isKin rfl ⟨by decide, by decide⟩ rfl zc_0 (by decide) dX0_canSwap_2 h (fun v1 h => ?_)
  refine g_if_eq 25 dX0_canSwap_5 (by decide) (fun c => ?_) (fun c => ?_)
  · have h := zite_p h c
    refine g_iconst (v := (0 : Int32)) dX0_canSwap_25 (by decide) ?_
    refine g_zret dX0_canSwap_26 hxt rfl ?_
    have e := Option.some.inj h
    exact Kret _ e
  · have h := zite_n h c
    refine g_aload_n dX0_canSwap_8 0 rfl ?_
    refine g_iload_n dX0_canSwap_9 2 rfl ?_
    refine g_cVRv (rv := fun x : Int32 => Value.int x) [.int a2] (fun x0 e0 => ok_X0_isKin (xl X) g m a0 a2 x0 e0) zc0 (by decide) (lw_V q893 q895 qs25 q123 q896) rfl hy_X0_isKin rfl ⟨by decide, by decide⟩ rfl zc_0 (by decide) dX0_canSwap_10 h (fun v2 h => ?_)
    refine g_if_eq 25 dX0_canSwap_13 (by decide) (fun c => ?_) (fun c => ?_)
    · have h := zite_p h c
      refine g_iconst (v := (0 : Int32)) dX0_canSwap_25 (by decide) ?_
      refine g_zret dX0_canSwap_26 hxt rfl ?_
      have e := Option.some.inj h
      exact Kret _ e
    · have h := zite_n h c
      refine g_iload_n dX0_canSwap_16 1 rfl ?_
      refine g_iload_n dX0_canSwap_17 2 rfl ?_
      refine g_icmp_eq 25 dX0_canSwap_18 (by decide) (fun c => ?_) (fun c => ?_)
      · have h := zite_p h c
        refine g_iconst (v := (0 : Int32)) dX0_canSwap_25 (by decide) ?_
        refine g_zret dX0_canSwap_26 hxt rfl ?_
        have e := Option.some.inj h
        exact Kret _ e
      · have h := zite_n h c
        refine g_iconst (v := (1 : Int32)) dX0_canSwap_21 (by decide) ?_
        refine g_goto 26 dX0_canSwap_22 (by decide) ?_
        refine g_zret dX0_canSwap_26 hxt rfl ?_
        have e := Option.some.inj h
        exact Kret _ e
/-! QuiverKin.seatOf -/
def b_X0_seatOf_2 (g : zGd) (m : zMm) (a1 : Option Nat) (a2 : Int32) : Int32 → Option ((Int32) ⊕ (Int32)) := fun v4 =>
(zald 101 g m a1 ((2 : Int32) + v4)).bind fun v5 =>
if v5 = a2 then (some (.inl v4))
else (zlt (v4 + (1 : Int32)) fun v6 =>
some (.inr v6))
def f_X0_seatOf (g : zGd) (m : zMm) (a0 : Option Nat) (a1 : Option Nat) (a2 : Int32) : Option (Int32) :=
(zLoop (b_X0_seatOf_2 g m a1 a2) zFuel (0 : Int32)).bind fun v2 =>
some (v2)
theorem hy_X0_seatOf : zHy yX0_seatOf 2 := ⟨by decide, by decide, by decide +kernel⟩
set_option maxHeartbeats 4000000 in
theorem ok_X0_seatOf (l : Launch) (g : zGd) (m : zMm) (a0 : Option Nat) (a1 : Option Nat) (a2 : Int32) (z0 : Int32) (h : f_X0_seatOf g m a0 a1 a2 = some z0) : zCT l yX0_seatOf cX0_seatOf 4 (some .int) 1 20 g m [va_rf a0, va_rf a1, .int a2] (some (.int z0)) g m := by
  refine zCT.of (own := "QuiverKin") (mn := "seatOf") (by decide +kernel) rfl rfl (zla_r (zla_r (zla_i zla_0))) (zls_r (zls_r (zls_i zls_0))) (by decide) (fun X hxl hxg hxf hxt hxr hxn => ?_)
  have Kret : ∀ (y0 : Int32), y0 = z0 → zRe X g m (some (.int y0)) := by
    intro y0 e; cases e; exact ⟨hxf, hxr, hxn⟩
  subst hxl
  show zG X cX0_seatOf 4 "QuiverKin" "seatOf" 1 20 0 [(0, va_rf a0), (1, va_rf a1), (2, .int a2)] [] g m
  unfold f_X0_seatOf at h
  refine g_iconst (v := (0 : Int32)) dX0_seatOf_0 (by decide) ?_
  refine g_istore_n [(3, .int (0 : Int32)), (0, va_rf a0), (1, va_rf a1), (2, .int a2)] dX0_seatOf_1 (by decide) (zf_r (zf_r (zf_i zf_0))) rfl ?_
  obtain ⟨o1, h1, h2⟩ := zB_e h
  have K1 : ∀ (v2 : Int32), o1 = v2 → zG X cX0_seatOf 4 "QuiverKin" "seatOf" 1 20 17 [(3, .int v2)] [] g m := by
    intro v2 e
    rw [e] at h2
    have h := h2
    refine g_iload_n dX0_seatOf_17 0 rfl ?_
    refine g_iret dX0_seatOf_18 hxt ?_
    have e := Option.some.inj h
    exact Kret _ e
  refine zG.sub [2, 3, 0] rfl ?_
  refine zLoop_ok (Φ := (fun v4 : Int32 => zG X cX0_seatOf 4 "QuiverKin" "seatOf" 1 20 2 [(1, va_rf a1), (2, .int a2), (3, .int v4)] [] g m)) o1 ?_ zFuel _ h1
  rintro v4 x3 h hl3 hr3
  unfold b_X0_seatOf_2 at h
  have K3 : ∀ (v4 : Int32), x3 = .inr v4 → zG X cX0_seatOf 4 "QuiverKin" "seatOf" 1 20 2 [(1, va_rf a1), (2, .int a2), (3, .int v4)] [] g m := by
    intro v4 e
    exact hr3 _ e
  show zG X cX0_seatOf 4 "QuiverKin" "seatOf" 1 20 2 [(1, va_rf a1), (2, .int a2), (3, .int v4)] [] g m
  refine g_aload_n dX0_seatOf_2 0 rfl ?_
  refine g_iconst (v := (2 : Int32)) dX0_seatOf_3 (by decide) ?_
  refine g_iload_n dX0_seatOf_4 2 rfl ?_
  refine g_iadd dX0_seatOf_5 ?_
  refine g_iald dX0_seatOf_6 h (fun v5 h => ?_)
  refine g_iload_n dX0_seatOf_7 1 rfl ?_
  refine g_icmp_eq 17 dX0_seatOf_8 (by decide) (fun c => ?_) (fun c => ?_)
  · have h := zite_p h c
    refine zG.sub [2] rfl ?_
    have e := Option.some.inj h
    have e := hl3 _ e.symm
    exact K1 _ e.symm
  · have h := zite_n h c
    refine g_iinc (v := (1 : Int32)) [(1, va_rf a1), (2, .int a2)] dX0_seatOf_11 2 rfl (by decide) (by decide) (zf_r (zf_i (zf_i zf_0))) rfl h (fun v6 h => ?_)
    refine g_goto 2 dX0_seatOf_14 (by decide) ?_
    refine zG.sub [1, 2, 0] rfl ?_
    have e := Option.some.inj h
    exact K3 _ e.symm
/-! QuiverKin.swaps -/
def f_X0_swaps (g : zGd) (m : zMm) (a0 : Option Nat) (a1 : Int32) (a2 : Int32) : Option (zMm) :=
(zald 101 g m a0 ((2 : Int32) + a1)).bind fun v1 =>
(zald 101 g m a0 ((2 : Int32) + a2)).bind fun v2 =>
(zast 101 g m a0 ((2 : Int32) + a1) v2).bind fun m3 =>
(zast 101 g m3 a0 ((2 : Int32) + a2) v1).bind fun m4 =>
some (m4)
theorem hy_X0_swaps : zHy yX0_swaps 3 := ⟨by decide, by decide, by decide +kernel⟩
set_option maxHeartbeats 4000000 in
theorem ok_X0_swaps (l : Launch) (g : zGd) (m : zMm) (a0 : Option Nat) (a1 : Int32) (a2 : Int32) (m0 : zMm) (h : f_X0_swaps g m a0 a1 a2 = some m0) : zCT l yX0_swaps cX0_swaps 4 none 1 20 g m [va_rf a0, .int a1, .int a2] none g m0 := by
  refine zCT.of (own := "QuiverKin") (mn := "swaps") (by decide +kernel) rfl rfl (zla_r (zla_i (zla_i zla_0))) (zls_r (zls_i (zls_i zls_0))) (by decide) (fun X hxl hxg hxf hxt hxr hxn => ?_)
  have Kret : ∀ (y0 : zMm), y0 = m0 → zRe X g y0 none := by
    intro y0 e; cases e; exact ⟨hxf, hxr, hxn⟩
  subst hxl
  show zG X cX0_swaps 4 "QuiverKin" "swaps" 1 20 0 [(0, va_rf a0), (1, .int a1), (2, .int a2)] [] g m
  unfold f_X0_swaps at h
  refine g_aload_n dX0_swaps_0 0 rfl ?_
  refine g_iconst (v := (2 : Int32)) dX0_swaps_1 (by decide) ?_
  refine g_iload_n dX0_swaps_2 1 rfl ?_
  refine g_iadd dX0_swaps_3 ?_
  refine g_iald dX0_swaps_4 h (fun v1 h => ?_)
  refine g_istore_n [(3, .int v1), (0, va_rf a0), (1, .int a1), (2, .int a2)] dX0_swaps_5 (by decide) (zf_r (zf_i (zf_i zf_0))) rfl ?_
  refine g_aload_n dX0_swaps_6 1 rfl ?_
  refine g_iconst (v := (2 : Int32)) dX0_swaps_7 (by decide) ?_
  refine g_iload_n dX0_swaps_8 2 rfl ?_
  refine g_iadd dX0_swaps_9 ?_
  refine g_aload_n dX0_swaps_10 1 rfl ?_
  refine g_iconst (v := (2 : Int32)) dX0_swaps_11 (by decide) ?_
  refine g_iload_n dX0_swaps_12 3 rfl ?_
  refine g_iadd dX0_swaps_13 ?_
  refine g_iald dX0_swaps_14 h (fun v2 h => ?_)
  refine g_iast dX0_swaps_15 h (fun m3 h => ?_)
  refine g_aload_n dX0_swaps_16 1 rfl ?_
  refine g_iconst (v := (2 : Int32)) dX0_swaps_17 (by decide) ?_
  refine g_iload_n dX0_swaps_18 3 rfl ?_
  refine g_iadd dX0_swaps_19 ?_
  refine g_iload_n dX0_swaps_20 0 rfl ?_
  refine g_iast dX0_swaps_21 h (fun m4 h => ?_)
  refine g_vret dX0_swaps_22 hxt ?_
  have e := Option.some.inj h
  exact Kret _ e
/-! QuiverKin.swap -/
def f_X0_swap (g : zGd) (m : zMm) (a0 : Option Nat) (a1 : Int32) (a2 : Int32) : Option (Int32 × zMm) :=
(zrc g 0 a0 (f_X0_canSwap g m a0 a1 a2)).bind fun v1 =>
if v1 = 0 then (some (((0 : Int32), m)))
else ((zgr g m 0 0 a0).bind fun r2 =>
(zrc g 1 r2 (f_X1_keeps g m r2)).bind fun m3 =>
(zgr g m3 0 0 a0).bind fun r4 =>
(zgr g m3 1 1 r4).bind fun r5 =>
(zgr g m3 0 0 a0).bind fun r6 =>
(zgr g m3 1 1 r6).bind fun r7 =>
(zrc g 0 a0 (f_X0_seatOf g m3 a0 r7 a1)).bind fun v8 =>
(zgr g m3 0 0 a0).bind fun r9 =>
(zgr g m3 1 1 r9).bind fun r10 =>
(zrc g 0 a0 (f_X0_seatOf g m3 a0 r10 a2)).bind fun v11 =>
(f_X0_swaps g m3 r5 v8 v11).bind fun m12 =>
some (((1 : Int32), m12)))
theorem hy_X0_swap : zHy yX0_swap 2 := ⟨by decide, by decide, by decide +kernel⟩
set_option maxHeartbeats 4000000 in
theorem ok_X0_swap (l : Launch) (g : zGd) (m : zMm) (a0 : Option Nat) (a1 : Int32) (a2 : Int32) (z0 : Int32) (m0 : zMm) (h : f_X0_swap g m a0 a1 a2 = some (z0, m0)) : zCT l yX0_swap cX0_swap 3 (some .boolean) 4 85 g m [va_rf a0, .int a1, .int a2] (some (.int z0)) g m0 := by
  refine zCT.of (own := "QuiverKin") (mn := "swap") (by decide +kernel) rfl rfl (zla_r (zla_i (zla_i zla_0))) (zls_r (zls_i (zls_i zls_0))) (by decide) (fun X hxl hxg hxf hxt hxr hxn => ?_)
  have Kret : ∀ (y0 : Int32) (y1 : zMm), (y0, y1) = (z0, m0) → zRe X g y1 (some (.int y0)) := by
    intro y0 y1 e; cases e; exact ⟨hxf, hxr, hxn⟩
  subst hxl
  show zG X cX0_swap 3 "QuiverKin" "swap" 4 85 0 [(0, va_rf a0), (1, .int a1), (2, .int a2)] [] g m
  unfold f_X0_swap at h
  refine g_aload_n dX0_swap_0 0 rfl ?_
  refine g_iload_n dX0_swap_1 1 rfl ?_
  refine g_iload_n dX0_swap_2 2 rfl ?_
  refine g_cVRv (rv := fun x : Int32 => Value.int x) [.int a1, .int a2] (fun x0 e0 => ok_X0_canSwap (xl X) g m a0 a1 a2 x0 e0) zc0 (by decide) (lw_V q924 q926 qs27 q123 q927) rfl hy_X0_canSwap rfl ⟨by decide, by decide⟩ rfl zc_0 (by decide) dX0_swap_3 h (fun v1 h => ?_)
  refine g_if_ne 11 dX0_swap_6 (by decide) (fun c => ?_) (fun c => ?_)
  · have h := zite_n h c
    refine g_aload_n dX0_swap_11 0 rfl ?_
    refine gf_r zfd_0_0 q239  (fun _ h9 => h9) dX0_swap_12 h (fun r2 h => ?_)
    refine g_cVMn [] (fun m0 e0 => ok_X1_keeps (xl X) g m r2 m0 e0) zc1 (by decide) (lw_V q900 q901 q902 q124 q903) rfl hy_X1_keeps rfl ⟨by decide, by decide⟩ rfl zc_0 (by decide) dX0_swap_15 h (fun m3 h => ?_)
    refine g_aload_n dX0_swap_18 0 rfl ?_
    refine gf_r zfd_0_0 q239  (fun _ h9 => h9) dX0_swap_19 h (fun r4 h => ?_)
    refine gf_rN zfd_1_1 q179  (fun _ h9 => h9) dX0_swap_22 h (fun r5 h => ?_)
    refine g_aload_n dX0_swap_25 0 rfl ?_
    refine g_aload_n dX0_swap_26 0 rfl ?_
    refine gf_r zfd_0_0 q239  (fun _ h9 => h9) dX0_swap_27 h (fun r6 h => ?_)
    refine gf_rN zfd_1_1 q179  (fun _ h9 => h9) dX0_swap_30 h (fun r7 h => ?_)
    refine g_iload_n dX0_swap_33 1 rfl ?_
    refine g_cVRv (rv := fun x : Int32 => Value.int x) [va_rf r7, .int a1] (fun x0 e0 => ok_X0_seatOf (xl X) g m3 a0 r7 a1 x0 e0) zc0 (by decide) (lw_V q928 q930 qs28 q123 q931) rfl hy_X0_seatOf rfl ⟨by decide, by decide⟩ rfl (zc_r zc_0) (by decide) dX0_swap_34 h (fun v8 h => ?_)
    refine g_aload_n dX0_swap_37 0 rfl ?_
    refine g_aload_n dX0_swap_38 0 rfl ?_
    refine gf_r zfd_0_0 q239  (fun _ h9 => h9) dX0_swap_39 h (fun r9 h => ?_)
    refine gf_rN zfd_1_1 q179  (fun _ h9 => h9) dX0_swap_42 h (fun r10 h => ?_)
    refine g_iload_n dX0_swap_45 2 rfl ?_
    refine g_cVRv (rv := fun x : Int32 => Value.int x) [va_rf r10, .int a2] (fun x0 e0 => ok_X0_seatOf (xl X) g m3 a0 r10 a2 x0 e0) zc0 (by decide) (lw_V q928 q930 qs28 q123 q931) rfl hy_X0_seatOf rfl ⟨by decide, by decide⟩ rfl (zc_i (zc_r zc_0)) (by decide) dX0_swap_46 h (fun v11 h => ?_)
    refine g_cSMn [va_rf r5, .int v8, .int v11] (fun m0 e0 => ok_X0_swaps (xl X) g m3 r5 v8 v11 m0 e0) (lw_S q932 q933 q123 q934) hy_X0_swaps rfl ⟨by decide, by decide⟩ rfl zc_0 (by decide) dX0_swap_49 h (fun m12 h => ?_)
    refine g_iconst (v := (1 : Int32)) dX0_swap_52 (by decide) ?_
    refine g_zret dX0_swap_53 hxt rfl ?_
    have e := Option.some.inj h
    exact Kret _ _ e
  · have h := zite_p h c
    refine g_iconst (v := (0 : Int32)) dX0_swap_9 (by decide) ?_
    refine g_zret dX0_swap_10 hxt rfl ?_
    have e := Option.some.inj h
    exact Kret _ _ e
/-! QuiverKin.held -/
def f_X0_held (a0 : Int64) (a2 : Int32) (a3 : Int32) : Option (Int32) :=
(f_J7_min_2 (a3.toInt64) a0).bind fun w1 =>
(f_J7_max_2 (a2.toInt64) w1).bind fun w2 =>
some ((w2.toInt32))
theorem hy_X0_held : zHy yX0_held 3 := ⟨by decide, by decide, by decide +kernel⟩
set_option maxHeartbeats 4000000 in
theorem ok_X0_held (l : Launch) (g : zGd) (m : zMm) (a0 : Int64) (a2 : Int32) (a3 : Int32) (z0 : Int32) (h : f_X0_held a0 a2 a3 = some z0) : zCT l yX0_held cX0_held 4 (some .int) 2 43 g m [.long a0, .int a2, .int a3] (some (.int z0)) g m := by
  refine zCT.of (own := "QuiverKin") (mn := "held") (by decide +kernel) rfl rfl (zla_l (zla_i (zla_i zla_0))) (zls_l (zls_i (zls_i zls_0))) (by decide) (fun X hxl hxg hxf hxt hxr hxn => ?_)
  have Kret : ∀ (y0 : Int32), y0 = z0 → zRe X g m (some (.int y0)) := by
    intro y0 e; cases e; exact ⟨hxf, hxr, hxn⟩
  subst hxl
  show zG X cX0_held 4 "QuiverKin" "held" 2 43 0 [(0, .long a0), (2, .int a2), (3, .int a3)] [] g m
  unfold f_X0_held at h
  refine g_iload_n dX0_held_0 1 rfl ?_
  refine g_i2l dX0_held_1 ?_
  refine g_iload_n dX0_held_2 2 rfl ?_
  refine g_i2l dX0_held_3 ?_
  refine g_lload_n dX0_held_4 0 rfl ?_
  refine g_cSRv (rv := fun x : Int64 => Value.long x) [.long (a3.toInt64), .long a0] (fun x0 e0 => ok_J7_min_2 (xl X) g m (a3.toInt64) a0 x0 e0) (lw_S q1076 q1067 q136 q1068) hy_J7_min_2 rfl ⟨by decide, by decide⟩ rfl (zc_l zc_0) (by decide) dX0_held_5 h (fun w1 h => ?_)
  refine g_cSRv (rv := fun x : Int64 => Value.long x) [.long (a2.toInt64), .long w1] (fun x0 e0 => ok_J7_max_2 (xl X) g m (a2.toInt64) w1 x0 e0) (lw_S q1077 q1070 q136 q1071) hy_J7_max_2 rfl ⟨by decide, by decide⟩ rfl zc_0 (by decide) dX0_held_8 h (fun w2 h => ?_)
  refine g_l2i dX0_held_11 ?_
  refine g_iret dX0_held_12 hxt ?_
  have e := Option.some.inj h
  exact Kret _ e
/-! QuiverKin.whoAt -/
def f_X0_whoAt (g : zGd) (m : zMm) (a0 : Option Nat) (a1 : Option Nat) (a2 : Int32) : Option (Int32) :=
(zrc g 0 a0 (f_X0_many g m a0)).bind fun v1 =>
(zmod a2 v1).bind fun v2 =>
(zald 101 g m a1 ((2 : Int32) + v2)).bind fun v3 =>
some (v3)
theorem hy_X0_whoAt : zHy yX0_whoAt 2 := ⟨by decide, by decide, by decide +kernel⟩
set_option maxHeartbeats 4000000 in
theorem ok_X0_whoAt (l : Launch) (g : zGd) (m : zMm) (a0 : Option Nat) (a1 : Option Nat) (a2 : Int32) (z0 : Int32) (h : f_X0_whoAt g m a0 a1 a2 = some z0) : zCT l yX0_whoAt cX0_whoAt 3 (some .int) 2 40 g m [va_rf a0, va_rf a1, .int a2] (some (.int z0)) g m := by
  refine zCT.of (own := "QuiverKin") (mn := "whoAt") (by decide +kernel) rfl rfl (zla_r (zla_r (zla_i zla_0))) (zls_r (zls_r (zls_i zls_0))) (by decide) (fun X hxl hxg hxf hxt hxr hxn => ?_)
  have Kret : ∀ (y0 : Int32), y0 = z0 → zRe X g m (some (.int y0)) := by
    intro y0 e; cases e; exact ⟨hxf, hxr, hxn⟩
  subst hxl
  show zG X cX0_whoAt 3 "QuiverKin" "whoAt" 2 40 0 [(0, va_rf a0), (1, va_rf a1), (2, .int a2)] [] g m
  unfold f_X0_whoAt at h
  refine g_aload_n dX0_whoAt_0 1 rfl ?_
  refine g_iconst (v := (2 : Int32)) dX0_whoAt_1 (by decide) ?_
  refine g_iload_n dX0_whoAt_2 2 rfl ?_
  refine g_aload_n dX0_whoAt_3 0 rfl ?_
  refine g_cVRv (rv := fun x : Int32 => Value.int x) [] (fun x0 e0 => ok_X0_many (xl X) g m a0 x0 e0) zc0 (by decide) (lw_V q308 q310 qs0 q123 q311) rfl hy_X0_many rfl ⟨by decide, by decide⟩ rfl (zc_i (zc_i (zc_r zc_0))) (by decide) dX0_whoAt_4 h (fun v1 h => ?_)
  refine g_irem dX0_whoAt_7 h (fun v2 h => ?_)
  refine g_iadd dX0_whoAt_8 ?_
  refine g_iald dX0_whoAt_9 h (fun v3 h => ?_)
  refine g_iret dX0_whoAt_10 hxt ?_
  have e := Option.some.inj h
  exact Kret _ e
/-! QuiverKin.acrossOf -/
def f_X0_acrossOf (g : zGd) (m : zMm) (a0 : Option Nat) (a1 : Option Nat) (a2 : Int32) : Option (Int32) :=
(zrc g 0 a0 (f_X0_seatOf g m a0 a1 a2)).bind fun v1 =>
(zrc g 0 a0 (f_X0_many g m a0)).bind fun v2 =>
(zrc g 0 a0 (f_X0_whoAt g m a0 a1 (v1 + (v2 / (2 : Int32))))).bind fun v3 =>
some (v3)
theorem hy_X0_acrossOf : zHy yX0_acrossOf 2 := ⟨by decide, by decide, by decide +kernel⟩
set_option maxHeartbeats 4000000 in
theorem ok_X0_acrossOf (l : Launch) (g : zGd) (m : zMm) (a0 : Option Nat) (a1 : Option Nat) (a2 : Int32) (z0 : Int32) (h : f_X0_acrossOf g m a0 a1 a2 = some z0) : zCT l yX0_acrossOf cX0_acrossOf 3 (some .int) 3 62 g m [va_rf a0, va_rf a1, .int a2] (some (.int z0)) g m := by
  refine zCT.of (own := "QuiverKin") (mn := "acrossOf") (by decide +kernel) rfl rfl (zla_r (zla_r (zla_i zla_0))) (zls_r (zls_r (zls_i zls_0))) (by decide) (fun X hxl hxg hxf hxt hxr hxn => ?_)
  have Kret : ∀ (y0 : Int32), y0 = z0 → zRe X g m (some (.int y0)) := by
    intro y0 e; cases e; exact ⟨hxf, hxr, hxn⟩
  subst hxl
  show zG X cX0_acrossOf 3 "QuiverKin" "acrossOf" 3 62 0 [(0, va_rf a0), (1, va_rf a1), (2, .int a2)] [] g m
  unfold f_X0_acrossOf at h
  refine g_aload_n dX0_acrossOf_0 0 rfl ?_
  refine g_aload_n dX0_acrossOf_1 1 rfl ?_
  refine g_aload_n dX0_acrossOf_2 0 rfl ?_
  refine g_aload_n dX0_acrossOf_3 1 rfl ?_
  refine g_iload_n dX0_acrossOf_4 2 rfl ?_
  refine g_cVRv (rv := fun x : Int32 => Value.int x) [va_rf a1, .int a2] (fun x0 e0 => ok_X0_seatOf (xl X) g m a0 a1 a2 x0 e0) zc0 (by decide) (lw_V q928 q930 qs28 q123 q931) rfl hy_X0_seatOf rfl ⟨by decide, by decide⟩ rfl (zc_r (zc_r zc_0)) (by decide) dX0_acrossOf_5 h (fun v1 h => ?_)
  refine g_aload_n dX0_acrossOf_8 0 rfl ?_
  refine g_cVRv (rv := fun x : Int32 => Value.int x) [] (fun x0 e0 => ok_X0_many (xl X) g m a0 x0 e0) zc0 (by decide) (lw_V q308 q310 qs0 q123 q311) rfl hy_X0_many rfl ⟨by decide, by decide⟩ rfl (zc_i (zc_r (zc_r zc_0))) (by decide) dX0_acrossOf_9 h (fun v2 h => ?_)
  refine g_iconst (v := (2 : Int32)) dX0_acrossOf_12 (by decide) ?_
  refine g_idivC dX0_acrossOf_13 (by decide) ?_
  refine g_iadd dX0_acrossOf_14 ?_
  refine g_cVRv (rv := fun x : Int32 => Value.int x) [va_rf a1, .int (v1 + (v2 / (2 : Int32)))] (fun x0 e0 => ok_X0_whoAt (xl X) g m a0 a1 (v1 + (v2 / (2 : Int32))) x0 e0) zc0 (by decide) (lw_V q964 q966 qs34 q123 q967) rfl hy_X0_whoAt rfl ⟨by decide, by decide⟩ rfl zc_0 (by decide) dX0_acrossOf_15 h (fun v3 h => ?_)
  refine g_iret dX0_acrossOf_18 hxt ?_
  have e := Option.some.inj h
  exact Kret _ e
/-! QuiverKin.namesOf -/
def b_X0_namesOf_57 (g : zGd) (a0 : Option Nat) (a1 : Option Nat) : Int32 × zMm → Option ((zMm) ⊕ (Int32 × zMm)) := fun (v20, m21) =>
if (6 : Int32) ≤ v20 then (some (.inl m21))
else ((zgr g m21 0 6 a0).bind fun r22 =>
(zrc g 0 a0 (f_X0_many g m21 a0)).bind fun v23 =>
((if v23 ≤ v20 then (some ((0 : Int32)))
else ((zrc g 0 a0 (f_X0_acrossOf g m21 a0 a1 v20)).bind fun v26 =>
some (v26)) : Option (Int32))).bind fun v25 =>
(zast 101 g m21 r22 ((7 : Int32) + v20) v25).bind fun m27 =>
(zgr g m27 0 6 a0).bind fun r28 =>
(zrc g 0 a0 (f_X0_many g m27 a0)).bind fun v29 =>
if v29 ≤ v20 then ((zast 101 g m27 r28 ((13 : Int32) + v20) (0 : Int32)).bind fun m30 =>
zlt (v20 + (1 : Int32)) fun v31 =>
some (.inr (v31, m30)))
else ((zald 101 g m27 a1 ((8 : Int32) + v20)).bind fun v32 =>
(zast 101 g m27 r28 ((13 : Int32) + v20) v32).bind fun m33 =>
zlt (v20 + (1 : Int32)) fun v34 =>
some (.inr (v34, m33))))
def f_X0_namesOf (g : zGd) (m : zMm) (a0 : Option Nat) (a1 : Option Nat) (a2 : Int32) : Option (zMm) :=
(zgr g m 0 6 a0).bind fun r1 =>
(zald 101 g m a1 (0 : Int32)).bind fun v2 =>
(zast 101 g m r1 (0 : Int32) v2).bind fun m3 =>
(zgr g m3 0 6 a0).bind fun r4 =>
(zast 101 g m3 r4 (1 : Int32) a2).bind fun m5 =>
(zgr g m5 0 6 a0).bind fun r6 =>
(zgr g m5 0 0 a0).bind fun r7 =>
(zgr g m5 1 2 r7).bind fun r8 =>
(zald 101 g m5 r8 a2).bind fun v9 =>
(zast 101 g m5 r6 (2 : Int32) v9).bind fun m10 =>
(zgr g m10 0 6 a0).bind fun r11 =>
(zald 101 g m10 a1 ((8 : Int32) + a2)).bind fun v12 =>
(zast 101 g m10 r11 (3 : Int32) v12).bind fun m13 =>
(zgr g m13 0 6 a0).bind fun r14 =>
(zrc g 0 a0 (f_X0_seatOf g m13 a0 a1 a2)).bind fun v15 =>
(zast 101 g m13 r14 (4 : Int32) v15).bind fun m16 =>
(zLoop (b_X0_namesOf_57 g a0 a1) zFuel ((0 : Int32), m16)).bind fun m18 =>
some (m18)
theorem hy_X0_namesOf : zHy yX0_namesOf 2 := ⟨by decide, by decide, by decide +kernel⟩
set_option maxHeartbeats 4000000 in
theorem ok_X0_namesOf (l : Launch) (g : zGd) (m : zMm) (a0 : Option Nat) (a1 : Option Nat) (a2 : Int32) (m0 : zMm) (h : f_X0_namesOf g m a0 a1 a2 = some m0) : zCT l yX0_namesOf cX0_namesOf 4 none 4 84 g m [va_rf a0, va_rf a1, .int a2] none g m0 := by
  refine zCT.of (own := "QuiverKin") (mn := "namesOf") (by decide +kernel) rfl rfl (zla_r (zla_r (zla_i zla_0))) (zls_r (zls_r (zls_i zls_0))) (by decide) (fun X hxl hxg hxf hxt hxr hxn => ?_)
  have Kret : ∀ (y0 : zMm), y0 = m0 → zRe X g y0 none := by
    intro y0 e; cases e; exact ⟨hxf, hxr, hxn⟩
  subst hxl
  show zG X cX0_namesOf 4 "QuiverKin" "namesOf" 4 84 0 [(0, va_rf a0), (1, va_rf a1), (2, .int a2)] [] g m
  unfold f_X0_namesOf at h
  refine g_aload_n dX0_namesOf_0 0 rfl ?_
  refine gf_r zfd_0_6 q245  (fun _ h9 => h9) dX0_namesOf_1 h (fun r1 h => ?_)
  refine g_iconst (v := (0 : Int32)) dX0_namesOf_4 (by decide) ?_
  refine g_aload_n dX0_namesOf_5 1 rfl ?_
  refine g_iconst (v := (0 : Int32)) dX0_namesOf_6 (by decide) ?_
  refine g_iald dX0_namesOf_7 h (fun v2 h => ?_)
  refine g_iast dX0_namesOf_8 h (fun m3 h => ?_)
  refine g_aload_n dX0_namesOf_9 0 rfl ?_
  refine gf_r zfd_0_6 q245  (fun _ h9 => h9) dX0_namesOf_10 h (fun r4 h => ?_)
  refine g_iconst (v := (1 : Int32)) dX0_namesOf_13 (by decide) ?_
  refine g_iload_n dX0_namesOf_14 2 rfl ?_
  refine g_iast dX0_namesOf_15 h (fun m5 h => ?_)
  refine g_aload_n dX0_namesOf_16 0 rfl ?_
  refine gf_r zfd_0_6 q245  (fun _ h9 => h9) dX0_namesOf_17 h (fun r6 h => ?_)
  refine g_iconst (v := (2 : Int32)) dX0_namesOf_20 (by decide) ?_
  refine g_aload_n dX0_namesOf_21 0 rfl ?_
  refine gf_r zfd_0_0 q239  (fun _ h9 => h9) dX0_namesOf_22 h (fun r7 h => ?_)
  refine gf_rN zfd_1_2 q181  (fun _ h9 => h9) dX0_namesOf_25 h (fun r8 h => ?_)
  refine g_iload_n dX0_namesOf_28 2 rfl ?_
  refine g_iald dX0_namesOf_29 h (fun v9 h => ?_)
  refine g_iast dX0_namesOf_30 h (fun m10 h => ?_)
  refine g_aload_n dX0_namesOf_31 0 rfl ?_
  refine gf_r zfd_0_6 q245  (fun _ h9 => h9) dX0_namesOf_32 h (fun r11 h => ?_)
  refine g_iconst (v := (3 : Int32)) dX0_namesOf_35 (by decide) ?_
  refine g_aload_n dX0_namesOf_36 1 rfl ?_
  refine g_bipush (v := (8 : Int32)) dX0_namesOf_37 (by decide) ?_
  refine g_iload_n dX0_namesOf_39 2 rfl ?_
  refine g_iadd dX0_namesOf_40 ?_
  refine g_iald dX0_namesOf_41 h (fun v12 h => ?_)
  refine g_iast dX0_namesOf_42 h (fun m13 h => ?_)
  refine g_aload_n dX0_namesOf_43 0 rfl ?_
  refine gf_r zfd_0_6 q245  (fun _ h9 => h9) dX0_namesOf_44 h (fun r14 h => ?_)
  refine g_iconst (v := (4 : Int32)) dX0_namesOf_47 (by decide) ?_
  refine g_aload_n dX0_namesOf_48 0 rfl ?_
  refine g_aload_n dX0_namesOf_49 1 rfl ?_
  refine g_iload_n dX0_namesOf_50 2 rfl ?_
  refine g_cVRv (rv := fun x : Int32 => Value.int x) [va_rf a1, .int a2] (fun x0 e0 => ok_X0_seatOf (xl X) g m13 a0 a1 a2 x0 e0) zc0 (by decide) (lw_V q928 q930 qs28 q123 q931) rfl hy_X0_seatOf rfl ⟨by decide, by decide⟩ rfl (zc_i (zc_r zc_0)) (by decide) dX0_namesOf_51 h (fun v15 h => ?_)
  refine g_iast dX0_namesOf_54 h (fun m16 h => ?_)
  refine g_iconst (v := (0 : Int32)) dX0_namesOf_55 (by decide) ?_
  refine g_istore_n [(3, .int (0 : Int32)), (0, va_rf a0), (1, va_rf a1), (2, .int a2)] dX0_namesOf_56 (by decide) (zf_r (zf_r (zf_i zf_0))) rfl ?_
  obtain ⟨o17, h1, h2⟩ := zB_e h
  have K17 : ∀ (m18 : zMm), o17 = m18 → zG X cX0_namesOf 4 "QuiverKin" "namesOf" 4 84 123 [] [] g m18 := by
    intro m18 e
    rw [e] at h2
    have h := h2
    refine g_vret dX0_namesOf_123 hxt ?_
    have e := Option.some.inj h
    exact Kret _ e
  refine zG.sub [1, 2, 0] rfl ?_
  refine zLoop_ok (Φ := (fun (q : Int32 × zMm) => match q with | (v20, m21) => zG X cX0_namesOf 4 "QuiverKin" "namesOf" 4 84 57 [(0, va_rf a0), (1, va_rf a1), (3, .int v20)] [] g m21)) o17 ?_ zFuel _ h1
  rintro ⟨v20, m21⟩ x19 h hl19 hr19
  unfold b_X0_namesOf_57 at h
  have K19 : ∀ (v20 : Int32) (m21 : zMm), x19 = .inr (v20, m21) → zG X cX0_namesOf 4 "QuiverKin" "namesOf" 4 84 57 [(0, va_rf a0), (1, va_rf a1), (3, .int v20)] [] g m21 := by
    intro v20 m21 e
    exact hr19 _ e
  show zG X cX0_namesOf 4 "QuiverKin" "namesOf" 4 84 57 [(0, va_rf a0), (1, va_rf a1), (3, .int v20)] [] g m21
  refine g_iload_n dX0_namesOf_57 2 rfl ?_
  refine g_bipush (v := (6 : Int32)) dX0_namesOf_58 (by decide) ?_
  refine g_icmp_ge 123 dX0_namesOf_60 (by decide) (fun c => ?_) (fun c => ?_)
  · have h := zite_p h c
    refine zG.sub [] rfl ?_
    have e := Option.some.inj h
    have e := hl19 _ e.symm
    exact K17 _ e.symm
  · have h := zite_n h c
    refine g_aload_n dX0_namesOf_63 0 rfl ?_
    refine gf_r zfd_0_6 q245  (fun _ h9 => h9) dX0_namesOf_64 h (fun r22 h => ?_)
    refine g_bipush (v := (7 : Int32)) dX0_namesOf_67 (by decide) ?_
    refine g_iload_n dX0_namesOf_69 2 rfl ?_
    refine g_iadd dX0_namesOf_70 ?_
    refine g_iload_n dX0_namesOf_71 2 rfl ?_
    refine g_aload_n dX0_namesOf_72 0 rfl ?_
    refine g_cVRv (rv := fun x : Int32 => Value.int x) [] (fun x0 e0 => ok_X0_many (xl X) g m21 a0 x0 e0) zc0 (by decide) (lw_V q308 q310 qs0 q123 q311) rfl hy_X0_many rfl ⟨by decide, by decide⟩ rfl (zc_i (zc_i (zc_r zc_0))) (by decide) dX0_namesOf_73 h (fun v23 h => ?_)
    obtain ⟨o24, h1, h2⟩ := zB_e h
    have K24 : ∀ (v25 : Int32), o24 = v25 → zG X cX0_namesOf 4 "QuiverKin" "namesOf" 4 84 89 [(0, va_rf a0), (1, va_rf a1), (3, .int v20)] [.int v25, .int ((7 : Int32) + v20), va_rf r22] g m21 := by
      intro v25 e
      rw [e] at h2
      have h := h2
      refine g_iast dX0_namesOf_89 h (fun m27 h => ?_)
      refine g_aload_n dX0_namesOf_90 0 rfl ?_
      refine gf_r zfd_0_6 q245  (fun _ h9 => h9) dX0_namesOf_91 h (fun r28 h => ?_)
      refine g_bipush (v := (13 : Int32)) dX0_namesOf_94 (by decide) ?_
      refine g_iload_n dX0_namesOf_96 2 rfl ?_
      refine g_iadd dX0_namesOf_97 ?_
      refine g_iload_n dX0_namesOf_98 2 rfl ?_
      refine g_aload_n dX0_namesOf_99 0 rfl ?_
      refine g_cVRv (rv := fun x : Int32 => Value.int x) [] (fun x0 e0 => ok_X0_many (xl X) g m27 a0 x0 e0) zc0 (by decide) (lw_V q308 q310 qs0 q123 q311) rfl hy_X0_many rfl ⟨by decide, by decide⟩ rfl (zc_i (zc_i (zc_r zc_0))) (by decide) dX0_namesOf_100 h (fun v29 h => ?_)
      refine g_icmp_ge 115 dX0_namesOf_103 (by decide) (fun c => ?_) (fun c => ?_)
      · have h := zite_p h c
        refine g_iconst (v := (0 : Int32)) dX0_namesOf_115 (by decide) ?_
        refine g_iast dX0_namesOf_116 h (fun m30 h => ?_)
        refine g_iinc (v := (1 : Int32)) [(0, va_rf a0), (1, va_rf a1)] dX0_namesOf_117 2 rfl (by decide) (by decide) (zf_r (zf_r (zf_i zf_0))) rfl h (fun v31 h => ?_)
        refine g_goto 57 dX0_namesOf_120 (by decide) ?_
        refine zG.sub [1, 2, 0] rfl ?_
        have e := Option.some.inj h
        exact K19 _ _ e.symm
      · have h := zite_n h c
        refine g_aload_n dX0_namesOf_106 1 rfl ?_
        refine g_bipush (v := (8 : Int32)) dX0_namesOf_107 (by decide) ?_
        refine g_iload_n dX0_namesOf_109 2 rfl ?_
        refine g_iadd dX0_namesOf_110 ?_
        refine g_iald dX0_namesOf_111 h (fun v32 h => ?_)
        refine g_goto 116 dX0_namesOf_112 (by decide) ?_
        refine g_iast dX0_namesOf_116 h (fun m33 h => ?_)
        refine g_iinc (v := (1 : Int32)) [(0, va_rf a0), (1, va_rf a1)] dX0_namesOf_117 2 rfl (by decide) (by decide) (zf_r (zf_r (zf_i zf_0))) rfl h (fun v34 h => ?_)
        refine g_goto 57 dX0_namesOf_120 (by decide) ?_
        refine zG.sub [1, 2, 0] rfl ?_
        have e := Option.some.inj h
        exact K19 _ _ e.symm
    have h := h1
    refine g_icmp_ge 88 dX0_namesOf_76 (by decide) (fun c => ?_) (fun c => ?_)
    · have h := zite_p h c
      refine g_iconst (v := (0 : Int32)) dX0_namesOf_88 (by decide) ?_
      refine zG.sub [0, 1, 2] rfl ?_
      have e := Option.some.inj h
      exact K24 _ e.symm
    · have h := zite_n h c
      refine g_aload_n dX0_namesOf_79 0 rfl ?_
      refine g_aload_n dX0_namesOf_80 1 rfl ?_
      refine g_iload_n dX0_namesOf_81 2 rfl ?_
      refine g_cVRv (rv := fun x : Int32 => Value.int x) [va_rf a1, .int v20] (fun x0 e0 => ok_X0_acrossOf (xl X) g m21 a0 a1 v20 x0 e0) zc0 (by decide) (lw_V q960 q962 qs33 q123 q963) rfl hy_X0_acrossOf rfl ⟨by decide, by decide⟩ rfl (zc_i (zc_r zc_0)) (by decide) dX0_namesOf_82 h (fun v26 h => ?_)
      refine g_goto 89 dX0_namesOf_85 (by decide) ?_
      refine zG.sub [0, 1, 2] rfl ?_
      have e := Option.some.inj h
      exact K24 _ e.symm
/-! QuiverKin.rules -/
def f_X0_rules (g : zGd) (m : zMm) (a0 : Option Nat) : Option (Option Nat) :=
(zgr g m 0 0 a0).bind fun r1 =>
(zgr g m 1 0 r1).bind fun r2 =>
(zald 101 g m r2 (2 : Int32)).bind fun v3 =>
if v3 = (-1 : Int32) then (some ((zS g 0)))
else ((zgr g m 0 0 a0).bind fun r4 =>
(zgr g m 1 11 r4).bind fun r5 =>
(zgr g m 0 0 a0).bind fun r6 =>
(zgr g m 1 0 r6).bind fun r7 =>
(zald 101 g m r7 (2 : Int32)).bind fun v8 =>
(zaldr 108 g m r5 v8).bind fun r9 =>
some (r9))
theorem hy_X0_rules : zHy yX0_rules 0 := ⟨by decide, by decide, by decide +kernel⟩
set_option maxHeartbeats 4000000 in
theorem ok_X0_rules (l : Launch) (g : zGd) (m : zMm) (a0 : Option Nat) (z0 : Option Nat) (h : f_X0_rules g m a0 = some z0) : zCT l yX0_rules cX0_rules 1 (some (.object "QuiverKin$Text")) 1 20 g m [va_rf a0] (some (va_rf z0)) g m := by
  refine zCT.of (own := "QuiverKin") (mn := "rules") (by decide +kernel) rfl rfl (zla_r zla_0) (zls_r zls_0) (by decide) (fun X hxl hxg hxf hxt hxr hxn => ?_)
  have Kret : ∀ (y0 : Option Nat), y0 = z0 → zRe X g m (some (va_rf y0)) := by
    intro y0 e; cases e; exact ⟨hxf, hxr, hxn⟩
  subst hxl
  show zG X cX0_rules 1 "QuiverKin" "rules" 1 20 0 [(0, va_rf a0)] [] g m
  unfold f_X0_rules at h
  refine g_aload_n dX0_rules_0 0 rfl ?_
  refine gf_r zfd_0_0 q239  (fun _ h9 => h9) dX0_rules_1 h (fun r1 h => ?_)
  refine gf_rN zfd_1_0 q177  (fun _ h9 => h9) dX0_rules_4 h (fun r2 h => ?_)
  refine g_iconst (v := (2 : Int32)) dX0_rules_7 (by decide) ?_
  refine g_iald dX0_rules_8 h (fun v3 h => ?_)
  refine g_iconst (v := (-1 : Int32)) dX0_rules_9 (by decide) ?_
  refine g_icmp_ne 19 dX0_rules_10 (by decide) (fun c => ?_) (fun c => ?_)
  · have h := zite_n h c
    refine g_aload_n dX0_rules_19 0 rfl ?_
    refine gf_r zfd_0_0 q239  (fun _ h9 => h9) dX0_rules_20 h (fun r4 h => ?_)
    refine gf_rN zfd_1_11 q199  (fun _ h9 => h9) dX0_rules_23 h (fun r5 h => ?_)
    refine g_aload_n dX0_rules_26 0 rfl ?_
    refine gf_r zfd_0_0 q239  (fun _ h9 => h9) dX0_rules_27 h (fun r6 h => ?_)
    refine gf_rN zfd_1_0 q177  (fun _ h9 => h9) dX0_rules_30 h (fun r7 h => ?_)
    refine g_iconst (v := (2 : Int32)) dX0_rules_33 (by decide) ?_
    refine g_iald dX0_rules_34 h (fun v8 h => ?_)
    refine g_aald 7 rfl rfl (by decide)  dX0_rules_35 h (fun r9 h => ?_)
    refine g_aret dX0_rules_36 hxt (by first | exact Or.inl ⟨_, rfl⟩ | exact Or.inr ⟨_, rfl⟩) ?_
    have e := Option.some.inj h
    exact Kret _ e
  · have h := zite_p h c
    refine g_gets (List.mem_of_getElem? (i := 0) rfl) q950 (fun _ h9 => h9) dX0_rules_13 ?_
    refine g_goto 36 dX0_rules_16 (by decide) ?_
    refine g_aret dX0_rules_36 hxt (by first | exact Or.inl ⟨_, rfl⟩ | exact Or.inr ⟨_, rfl⟩) ?_
    have e := Option.some.inj h
    exact Kret _ e
/-! SCC.E -/
theorem hy_X6_of : zHy yX6_of 1 := ⟨by decide, by decide, by decide +kernel⟩
theorem hy_X7_of : zHy yX7_of 1 := ⟨by decide, by decide, by decide +kernel⟩
theorem hy_X11_of : zHy yX11_of 1 := ⟨by decide, by decide, by decide +kernel⟩
theorem hy_X12_of : zHy yX12_of 1 := ⟨by decide, by decide, by decide +kernel⟩
theorem hy_X13_of : zHy yX13_of 1 := ⟨by decide, by decide, by decide +kernel⟩
theorem hy_X14_of : zHy yX14_of 1 := ⟨by decide, by decide, by decide +kernel⟩
theorem hy_X15_of : zHy yX15_of 1 := ⟨by decide, by decide, by decide +kernel⟩
theorem hy_X8_is : zHy yX8_is 1 := ⟨by decide, by decide, by decide +kernel⟩
theorem hy_X9_is : zHy yX9_is 1 := ⟨by decide, by decide, by decide +kernel⟩
theorem hy_X10_is : zHy yX10_is 1 := ⟨by decide, by decide, by decide +kernel⟩
def b_X6_of_14 (g : zGd) (m : zMm) (rec : (Option Nat → Option Nat → Option Int64) × (Option Nat → Option Nat → Option Int32)) (a0 : Option Nat) (a1 : Option Nat) : Int64 × Int32 → Option ((Int64) ⊕ (Int64 × Int32)) := fun (w6, v7) =>
(zgr g m 6 1 a0).bind fun r8 =>
(zrc g 17 r8 (f_J2_size g m r8)).bind fun v9 =>
if v9 ≤ v7 then (some (.inl w6))
else ((zgr g m 6 1 a0).bind fun r10 =>
(zrc g 17 r10 (f_J2_get g m r10 v7)).bind fun r11 =>
(zcst [6, 7, 11, 12, 13, 14, 15] g r11).bind fun _ =>
(rec.1 r11 a1).bind fun w12 =>
(zgr g m 6 2 a0).bind fun r13 =>
(zrc g 17 r13 (f_J2_get g m r13 v7)).bind fun r14 =>
(zcst [19] g r14).bind fun _ =>
(zrc g 19 r14 (f_J15_intValue g m r14)).bind fun v15 =>
((if v15 = (43 : Int32) then (some ((w6 + w12)))
else (if v15 = (45 : Int32) then (some ((w6 - w12)))
else (if v15 = (42 : Int32) then (some ((w6 * w12)))
else (if w12 = (0 : Int64) then (some ((0 : Int64)))
else ((zldiv w6 w12).bind fun w18 =>
some (w18))))) : Option (Int64))).bind fun w17 =>
(f_J7_min_2 (1000000 : Int64) w17).bind fun w19 =>
(f_J7_max_2 (-1000000 : Int64) w19).bind fun w20 =>
zlt (v7 + (1 : Int32)) fun v21 =>
some (.inr (w20, v21)))
def q_X6_of (rec : (Option Nat → Option Nat → Option Int64) × (Option Nat → Option Nat → Option Int32)) (g : zGd) (m : zMm) (a0 : Option Nat) (a1 : Option Nat) : Option (Int64) :=
(zgr g m 6 0 a0).bind fun r1 =>
(rec.1 r1 a1).bind fun w2 =>
(zLoop (b_X6_of_14 g m rec a0 a1) zFuel (w2, (0 : Int32))).bind fun w4 =>
some (w4)
set_option maxHeartbeats 4000000 in
theorem qk_X6_of (l : Launch) (g : zGd) (m : zMm) (fR lR : Nat) (rec : (Option Nat → Option Nat → Option Int64) × (Option Nat → Option Nat → Option Int32)) (hrec : zRcS l g m fR lR rec.1 ∧ zRcA l g m fR lR rec.2) (a0 : Option Nat) (a1 : Option Nat) (z0 : Int64) (h : q_X6_of rec g m a0 a1 = some z0) : zCT l yX6_of cX6_of 10 (some .long) (4 + fR) (84 + lR) g m [va_rf a0, va_rf a1] (some (.long z0)) g m := by
  refine zCT.of (own := "QuiverKin$Chain") (mn := "of") (by decide +kernel) rfl rfl (zla_r (zla_r zla_0)) (zls_r (zls_r zls_0)) (by decide) (fun X hxl hxg hxf hxt hxr hxn => ?_)
  have Kret : ∀ (y0 : Int64), y0 = z0 → zRe X g m (some (.long y0)) := by
    intro y0 e; cases e; exact ⟨hxf, hxr, hxn⟩
  subst hxl
  show zG X cX6_of 10 "QuiverKin$Chain" "of" (4 + fR) (84 + lR) 0 [(0, va_rf a0), (1, va_rf a1)] [] g m
  unfold q_X6_of at h
  refine g_aload_n dX6_of_0 0 rfl ?_
  refine gf_r zfd_6_0 q803  (fun _ h9 => h9) dX6_of_1 h (fun r1 h => ?_)
  refine g_aload_n dX6_of_4 1 rfl ?_
  refine g_cFS hrec.1 q987 ⟨by omega, by omega⟩ zc_0 (by decide) dX6_of_5 h (fun w2 h => ?_)
  refine g_lstore_n [(2, .long w2), (0, va_rf a0), (1, va_rf a1)] dX6_of_10 (by decide) (zF_r (zF_r zF_0)) rfl ?_
  refine g_iconst (v := (0 : Int32)) dX6_of_11 (by decide) ?_
  refine g_istore [(4, .int (0 : Int32)), (2, .long w2), (0, va_rf a0), (1, va_rf a1)] dX6_of_12 (by decide) (zf_l (zf_r (zf_r zf_0))) rfl ?_
  obtain ⟨o3, h1, h2⟩ := zB_e h
  have K3 : ∀ (w4 : Int64), o3 = w4 → zG X cX6_of 10 "QuiverKin$Chain" "of" (4 + fR) (84 + lR) 143 [(2, .long w4)] [] g m := by
    intro w4 e
    rw [e] at h2
    have h := h2
    refine g_lload_n dX6_of_143 0 rfl ?_
    refine g_lret dX6_of_144 hxt ?_
    have e := Option.some.inj h
    exact Kret _ e
  refine zG.sub [2, 3, 1, 0] rfl ?_
  refine zLoop_ok (Φ := (fun (q : Int64 × Int32) => match q with | (w6, v7) => zG X cX6_of 10 "QuiverKin$Chain" "of" (4 + fR) (84 + lR) 14 [(0, va_rf a0), (1, va_rf a1), (2, .long w6), (4, .int v7)] [] g m)) o3 ?_ zFuel _ h1
  rintro ⟨w6, v7⟩ x5 h hl5 hr5
  unfold b_X6_of_14 at h
  have K5 : ∀ (w6 : Int64) (v7 : Int32), x5 = .inr (w6, v7) → zG X cX6_of 10 "QuiverKin$Chain" "of" (4 + fR) (84 + lR) 14 [(0, va_rf a0), (1, va_rf a1), (2, .long w6), (4, .int v7)] [] g m := by
    intro w6 v7 e
    exact hr5 _ e
  show zG X cX6_of 10 "QuiverKin$Chain" "of" (4 + fR) (84 + lR) 14 [(0, va_rf a0), (1, va_rf a1), (2, .long w6), (4, .int v7)] [] g m
  refine g_iload dX6_of_14 3 rfl ?_
  refine g_aload_n dX6_of_16 0 rfl ?_
  refine gf_r zfd_6_1 q804  (fun _ h9 => h9) dX6_of_17 h (fun r8 h => ?_)
  refine g_cVRv (rv := fun x : Int32 => Value.int x) [] (fun x0 e0 => ok_J2_size (xl X) g m r8 x0 e0) zc17 (by decide) (lw_V q1056 q698 q699 q131 q700) rfl hy_J2_size rfl ⟨by omega, by omega⟩ rfl (zc_i zc_0) (by decide) dX6_of_20 h (fun v9 h => ?_)
  refine g_icmp_ge 143 dX6_of_23 (by decide) (fun c => ?_) (fun c => ?_)
  · have h := zite_p h c
    refine zG.sub [2] rfl ?_
    have e := Option.some.inj h
    have e := hl5 _ e.symm
    exact K3 _ e.symm
  · have h := zite_n h c
    refine g_aload_n dX6_of_26 0 rfl ?_
    refine gf_r zfd_6_1 q804  (fun _ h9 => h9) dX6_of_27 h (fun r10 h => ?_)
    refine g_iload dX6_of_30 3 rfl ?_
    refine g_cVRv (rv := fun x : Option Nat => va_rf x) [.int v7] (fun x0 e0 => ok_J2_get (xl X) g m r10 v7 x0 e0) zc17 (by decide) (lw_V q1057 q702 q703 q131 q704) rfl hy_J2_get rfl ⟨by omega, by omega⟩ rfl zc_0 (by decide) dX6_of_32 h (fun r11 h => ?_)
    refine g_cast [6, 7, 11, 12, 13, 14, 15] q1058 zcsS dX6_of_35 h (fun h => ?_)
    refine g_aload_n dX6_of_38 1 rfl ?_
    refine g_cFS hrec.1 q987 ⟨by omega, by omega⟩ zc_0 (by decide) dX6_of_39 h (fun w12 h => ?_)
    refine g_lstore [(5, .long w12), (0, va_rf a0), (1, va_rf a1), (2, .long w6), (4, .int v7)] dX6_of_44 (by decide) (zF_r (zF_r (zF_l (zF_i zF_0)))) rfl ?_
    refine g_aload_n dX6_of_46 1 rfl ?_
    refine gf_r zfd_6_2 q805  (fun _ h9 => h9) dX6_of_47 h (fun r13 h => ?_)
    refine g_iload dX6_of_50 4 rfl ?_
    refine g_cVRv (rv := fun x : Option Nat => va_rf x) [.int v7] (fun x0 e0 => ok_J2_get (xl X) g m r13 v7 x0 e0) zc17 (by decide) (lw_V q1057 q702 q703 q131 q704) rfl hy_J2_get rfl ⟨by omega, by omega⟩ rfl zc_0 (by decide) dX6_of_52 h (fun r14 h => ?_)
    refine g_cast [19] q1059 zcsI dX6_of_55 h (fun h => ?_)
    refine g_cVRv (rv := fun x : Int32 => Value.int x) [] (fun x0 e0 => ok_J15_intValue (xl X) g m r14 x0 e0) zc19 (by decide) (lw_V q1060 q1061 q1062 q155 q1063) rfl hy_J15_intValue rfl ⟨by omega, by omega⟩ rfl zc_0 (by decide) dX6_of_58 h (fun v15 h => ?_)
    refine g_istore [(7, .int v15), (5, .long w12), (0, va_rf a0), (1, va_rf a1), (2, .long w6), (4, .int v7)] dX6_of_61 (by decide) (zf_l (zf_r (zf_r (zf_l (zf_i zf_0))))) rfl ?_
    refine g_iload dX6_of_63 0 rfl ?_
    refine g_bipush (v := (43 : Int32)) dX6_of_65 (by decide) ?_
    obtain ⟨o16, h1, h2⟩ := zB_e h
    have K16 : ∀ (w17 : Int64), o16 = w17 → zG X cX6_of 10 "QuiverKin$Chain" "of" (4 + fR) (84 + lR) 120 [(0, va_rf a0), (1, va_rf a1), (4, .int v7)] [.long w17] g m := by
      intro w17 e
      rw [e] at h2
      have h := h2
      refine g_lstore [(8, .long w17), (0, va_rf a0), (1, va_rf a1), (4, .int v7)] dX6_of_120 (by decide) (zF_r (zF_r (zF_i zF_0))) rfl ?_
      refine g_ldc2 (v := (-1000000 : Int64)) q1064 dX6_of_122 ?_
      refine g_ldc2 (v := (1000000 : Int64)) q1065 dX6_of_125 ?_
      refine g_lload dX6_of_128 0 rfl ?_
      refine g_cSRv (rv := fun x : Int64 => Value.long x) [.long (1000000 : Int64), .long w17] (fun x0 e0 => ok_J7_min_2 (xl X) g m (1000000 : Int64) w17 x0 e0) (lw_S q1066 q1067 q136 q1068) hy_J7_min_2 rfl ⟨by omega, by omega⟩ rfl (zc_l zc_0) (by decide) dX6_of_130 h (fun w19 h => ?_)
      refine g_cSRv (rv := fun x : Int64 => Value.long x) [.long (-1000000 : Int64), .long w19] (fun x0 e0 => ok_J7_max_2 (xl X) g m (-1000000 : Int64) w19 x0 e0) (lw_S q1069 q1070 q136 q1071) hy_J7_max_2 rfl ⟨by omega, by omega⟩ rfl zc_0 (by decide) dX6_of_133 h (fun w20 h => ?_)
      refine g_lstore_n [(2, .long w20), (8, .long w17), (0, va_rf a0), (1, va_rf a1), (4, .int v7)] dX6_of_136 (by decide) (zF_l (zF_r (zF_r (zF_i zF_0)))) rfl ?_
      refine g_iinc (v := (1 : Int32)) [(2, .long w20), (8, .long w17), (0, va_rf a0), (1, va_rf a1)] dX6_of_137 4 rfl (by decide) (by decide) (zf_l (zf_l (zf_r (zf_r (zf_i zf_0))))) rfl h (fun v21 h => ?_)
      refine g_goto 14 dX6_of_140 (by decide) ?_
      refine zG.sub [3, 4, 1, 0] rfl ?_
      have e := Option.some.inj h
      exact K5 _ _ e.symm
    have h := h1
    refine g_icmp_ne 77 dX6_of_67 (by decide) (fun c => ?_) (fun c => ?_)
    · have h := zite_n h c
      refine g_iload dX6_of_77 0 rfl ?_
      refine g_bipush (v := (45 : Int32)) dX6_of_79 (by decide) ?_
      refine g_icmp_ne 91 dX6_of_81 (by decide) (fun c => ?_) (fun c => ?_)
      · have h := zite_n h c
        refine g_iload dX6_of_91 0 rfl ?_
        refine g_bipush (v := (42 : Int32)) dX6_of_93 (by decide) ?_
        refine g_icmp_ne 105 dX6_of_95 (by decide) (fun c => ?_) (fun c => ?_)
        · have h := zite_n h c
          refine g_lload dX6_of_105 1 rfl ?_
          refine g_lconst (v := (0 : Int64)) dX6_of_107 (by decide) ?_
          refine g_lcmp_ne 116 dX6_of_108 dX6_of_109 (by decide) (fun c => ?_) (fun c => ?_)
          · have h := zite_n h c
            refine g_lload_n dX6_of_116 4 rfl ?_
            refine g_lload dX6_of_117 1 rfl ?_
            refine g_ldiv dX6_of_119 h (fun w18 h => ?_)
            refine zG.sub [2, 3, 5] rfl ?_
            have e := Option.some.inj h
            exact K16 _ e.symm
          · have h := zite_p h c
            refine g_lconst (v := (0 : Int64)) dX6_of_112 (by decide) ?_
            refine g_goto 120 dX6_of_113 (by decide) ?_
            refine zG.sub [2, 3, 5] rfl ?_
            have e := Option.some.inj h
            exact K16 _ e.symm
        · have h := zite_p h c
          refine g_lload_n dX6_of_98 4 rfl ?_
          refine g_lload dX6_of_99 1 rfl ?_
          refine g_lmul dX6_of_101 ?_
          refine g_goto 120 dX6_of_102 (by decide) ?_
          refine zG.sub [2, 3, 5] rfl ?_
          have e := Option.some.inj h
          exact K16 _ e.symm
      · have h := zite_p h c
        refine g_lload_n dX6_of_84 4 rfl ?_
        refine g_lload dX6_of_85 1 rfl ?_
        refine g_lsub dX6_of_87 ?_
        refine g_goto 120 dX6_of_88 (by decide) ?_
        refine zG.sub [2, 3, 5] rfl ?_
        have e := Option.some.inj h
        exact K16 _ e.symm
    · have h := zite_p h c
      refine g_lload_n dX6_of_70 4 rfl ?_
      refine g_lload dX6_of_71 1 rfl ?_
      refine g_ladd dX6_of_73 ?_
      refine g_goto 120 dX6_of_74 (by decide) ?_
      refine zG.sub [2, 3, 5] rfl ?_
      have e := Option.some.inj h
      exact K16 _ e.symm
def q_X7_of (rec : (Option Nat → Option Nat → Option Int64) × (Option Nat → Option Nat → Option Int32)) (g : zGd) (m : zMm) (a0 : Option Nat) (a1 : Option Nat) : Option (Int64) :=
(zgi g m 7 0 a0).bind fun v1 =>
some ((v1.toInt64))
set_option maxHeartbeats 4000000 in
theorem qk_X7_of (l : Launch) (g : zGd) (m : zMm) (fR lR : Nat) (rec : (Option Nat → Option Nat → Option Int64) × (Option Nat → Option Nat → Option Int32)) (hrec : zRcS l g m fR lR rec.1 ∧ zRcA l g m fR lR rec.2) (a0 : Option Nat) (a1 : Option Nat) (z0 : Int64) (h : q_X7_of rec g m a0 a1 = some z0) : zCT l yX7_of cX7_of 2 (some .long) (4 + fR) (84 + lR) g m [va_rf a0, va_rf a1] (some (.long z0)) g m := by
  refine zCT.of (own := "QuiverKin$Plain") (mn := "of") (by decide +kernel) rfl rfl (zla_r (zla_r zla_0)) (zls_r (zls_r zls_0)) (by decide) (fun X hxl hxg hxf hxt hxr hxn => ?_)
  have Kret : ∀ (y0 : Int64), y0 = z0 → zRe X g m (some (.long y0)) := by
    intro y0 e; cases e; exact ⟨hxf, hxr, hxn⟩
  subst hxl
  show zG X cX7_of 2 "QuiverKin$Plain" "of" (4 + fR) (84 + lR) 0 [(0, va_rf a0), (1, va_rf a1)] [] g m
  unfold q_X7_of at h
  refine g_aload_n dX7_of_0 0 rfl ?_
  refine gf_i zfd_7_0 q583  (fun _ h9 => h9) dX7_of_1 h (fun v1 h => ?_)
  refine g_i2l dX7_of_4 ?_
  refine g_lret dX7_of_5 hxt ?_
  have e := Option.some.inj h
  exact Kret _ e
def q_X11_of (rec : (Option Nat → Option Nat → Option Int64) × (Option Nat → Option Nat → Option Int32)) (g : zGd) (m : zMm) (a0 : Option Nat) (a1 : Option Nat) : Option (Int64) :=
(zgr g m 11 0 a0).bind fun r1 =>
(rec.2 r1 a1).bind fun v2 =>
if v2 = 0 then ((zgr g m 11 2 a0).bind fun r3 =>
(rec.1 r3 a1).bind fun w4 =>
some (w4))
else ((zgr g m 11 1 a0).bind fun r5 =>
(rec.1 r5 a1).bind fun w6 =>
some (w6))
set_option maxHeartbeats 4000000 in
theorem qk_X11_of (l : Launch) (g : zGd) (m : zMm) (fR lR : Nat) (rec : (Option Nat → Option Nat → Option Int64) × (Option Nat → Option Nat → Option Int32)) (hrec : zRcS l g m fR lR rec.1 ∧ zRcA l g m fR lR rec.2) (a0 : Option Nat) (a1 : Option Nat) (z0 : Int64) (h : q_X11_of rec g m a0 a1 = some z0) : zCT l yX11_of cX11_of 2 (some .long) (4 + fR) (84 + lR) g m [va_rf a0, va_rf a1] (some (.long z0)) g m := by
  refine zCT.of (own := "QuiverKin$If") (mn := "of") (by decide +kernel) rfl rfl (zla_r (zla_r zla_0)) (zls_r (zls_r zls_0)) (by decide) (fun X hxl hxg hxf hxt hxr hxn => ?_)
  have Kret : ∀ (y0 : Int64), y0 = z0 → zRe X g m (some (.long y0)) := by
    intro y0 e; cases e; exact ⟨hxf, hxr, hxn⟩
  subst hxl
  show zG X cX11_of 2 "QuiverKin$If" "of" (4 + fR) (84 + lR) 0 [(0, va_rf a0), (1, va_rf a1)] [] g m
  unfold q_X11_of at h
  refine g_aload_n dX11_of_0 0 rfl ?_
  refine gf_r zfd_11_0 q737  (fun _ h9 => h9) dX11_of_1 h (fun r1 h => ?_)
  refine g_aload_n dX11_of_4 1 rfl ?_
  refine g_cFA hrec.2 q995 ⟨by omega, by omega⟩ zc_0 (by decide) dX11_of_5 h (fun v2 h => ?_)
  refine g_if_eq 26 dX11_of_10 (by decide) (fun c => ?_) (fun c => ?_)
  · have h := zite_p h c
    refine g_aload_n dX11_of_26 0 rfl ?_
    refine gf_r zfd_11_2 q739  (fun _ h9 => h9) dX11_of_27 h (fun r3 h => ?_)
    refine g_aload_n dX11_of_30 1 rfl ?_
    refine g_cFS hrec.1 q1055 ⟨by omega, by omega⟩ zc_0 (by decide) dX11_of_31 h (fun w4 h => ?_)
    refine g_lret dX11_of_36 hxt ?_
    have e := Option.some.inj h
    exact Kret _ e
  · have h := zite_n h c
    refine g_aload_n dX11_of_13 0 rfl ?_
    refine gf_r zfd_11_1 q738  (fun _ h9 => h9) dX11_of_14 h (fun r5 h => ?_)
    refine g_aload_n dX11_of_17 1 rfl ?_
    refine g_cFS hrec.1 q1055 ⟨by omega, by omega⟩ zc_0 (by decide) dX11_of_18 h (fun w6 h => ?_)
    refine g_goto 36 dX11_of_23 (by decide) ?_
    refine g_lret dX11_of_36 hxt ?_
    have e := Option.some.inj h
    exact Kret _ e
def q_X12_of (rec : (Option Nat → Option Nat → Option Int64) × (Option Nat → Option Nat → Option Int32)) (g : zGd) (m : zMm) (a0 : Option Nat) (a1 : Option Nat) : Option (Int64) :=
(zgi g m 12 0 a0).bind fun v1 =>
(zald 101 g m a1 v1).bind fun v2 =>
some ((v2.toInt64))
set_option maxHeartbeats 4000000 in
theorem qk_X12_of (l : Launch) (g : zGd) (m : zMm) (fR lR : Nat) (rec : (Option Nat → Option Nat → Option Int64) × (Option Nat → Option Nat → Option Int32)) (hrec : zRcS l g m fR lR rec.1 ∧ zRcA l g m fR lR rec.2) (a0 : Option Nat) (a1 : Option Nat) (z0 : Int64) (h : q_X12_of rec g m a0 a1 = some z0) : zCT l yX12_of cX12_of 2 (some .long) (4 + fR) (84 + lR) g m [va_rf a0, va_rf a1] (some (.long z0)) g m := by
  refine zCT.of (own := "QuiverKin$Name") (mn := "of") (by decide +kernel) rfl rfl (zla_r (zla_r zla_0)) (zls_r (zls_r zls_0)) (by decide) (fun X hxl hxg hxf hxt hxr hxn => ?_)
  have Kret : ∀ (y0 : Int64), y0 = z0 → zRe X g m (some (.long y0)) := by
    intro y0 e; cases e; exact ⟨hxf, hxr, hxn⟩
  subst hxl
  show zG X cX12_of 2 "QuiverKin$Name" "of" (4 + fR) (84 + lR) 0 [(0, va_rf a0), (1, va_rf a1)] [] g m
  unfold q_X12_of at h
  refine g_aload_n dX12_of_0 1 rfl ?_
  refine g_aload_n dX12_of_1 0 rfl ?_
  refine gf_i zfd_12_0 q763  (fun _ h9 => h9) dX12_of_2 h (fun v1 h => ?_)
  refine g_iald dX12_of_5 h (fun v2 h => ?_)
  refine g_i2l dX12_of_6 ?_
  refine g_lret dX12_of_7 hxt ?_
  have e := Option.some.inj h
  exact Kret _ e
def q_X13_of (rec : (Option Nat → Option Nat → Option Int64) × (Option Nat → Option Nat → Option Int32)) (g : zGd) (m : zMm) (a0 : Option Nat) (a1 : Option Nat) : Option (Int64) :=
(zgr g m 13 0 a0).bind fun r1 =>
(rec.1 r1 a1).bind fun w2 =>
if w2 < (0 : Int64) then (some ((0 : Int64)))
else (if w2 < (6 : Int64) then ((zald 101 g m a1 ((7 : Int32) + (w2.toInt32))).bind fun v3 =>
some ((v3.toInt64)))
else (some ((0 : Int64))))
set_option maxHeartbeats 4000000 in
theorem qk_X13_of (l : Launch) (g : zGd) (m : zMm) (fR lR : Nat) (rec : (Option Nat → Option Nat → Option Int64) × (Option Nat → Option Nat → Option Int32)) (hrec : zRcS l g m fR lR rec.1 ∧ zRcA l g m fR lR rec.2) (a0 : Option Nat) (a1 : Option Nat) (z0 : Int64) (h : q_X13_of rec g m a0 a1 = some z0) : zCT l yX13_of cX13_of 4 (some .long) (4 + fR) (84 + lR) g m [va_rf a0, va_rf a1] (some (.long z0)) g m := by
  refine zCT.of (own := "QuiverKin$Across") (mn := "of") (by decide +kernel) rfl rfl (zla_r (zla_r zla_0)) (zls_r (zls_r zls_0)) (by decide) (fun X hxl hxg hxf hxt hxr hxn => ?_)
  have Kret : ∀ (y0 : Int64), y0 = z0 → zRe X g m (some (.long y0)) := by
    intro y0 e; cases e; exact ⟨hxf, hxr, hxn⟩
  subst hxl
  show zG X cX13_of 4 "QuiverKin$Across" "of" (4 + fR) (84 + lR) 0 [(0, va_rf a0), (1, va_rf a1)] [] g m
  unfold q_X13_of at h
  refine g_aload_n dX13_of_0 0 rfl ?_
  refine gf_r zfd_13_0 q773  (fun _ h9 => h9) dX13_of_1 h (fun r1 h => ?_)
  refine g_aload_n dX13_of_4 1 rfl ?_
  refine g_cFS hrec.1 q979 ⟨by omega, by omega⟩ zc_0 (by decide) dX13_of_5 h (fun w2 h => ?_)
  refine g_lstore_n [(2, .long w2), (0, va_rf a0), (1, va_rf a1)] dX13_of_10 (by decide) (zF_r (zF_r zF_0)) rfl ?_
  refine g_lload_n dX13_of_11 0 rfl ?_
  refine g_lconst (v := (0 : Int64)) dX13_of_12 (by decide) ?_
  refine g_lcmp_lt 25 dX13_of_13 dX13_of_14 (by decide) (fun c => ?_) (fun c => ?_)
  · have h := zite_p h c
    refine g_lconst (v := (0 : Int64)) dX13_of_25 (by decide) ?_
    refine g_goto 37 dX13_of_26 (by decide) ?_
    refine g_lret dX13_of_37 hxt ?_
    have e := Option.some.inj h
    exact Kret _ e
  · have h := zite_n h c
    refine g_lload_n dX13_of_17 0 rfl ?_
    refine g_ldc2 (v := (6 : Int64)) q1072 dX13_of_18 ?_
    refine g_lcmp_lt 29 dX13_of_21 dX13_of_22 (by decide) (fun c => ?_) (fun c => ?_)
    · have h := zite_p h c
      refine g_aload_n dX13_of_29 2 rfl ?_
      refine g_bipush (v := (7 : Int32)) dX13_of_30 (by decide) ?_
      refine g_lload_n dX13_of_32 0 rfl ?_
      refine g_l2i dX13_of_33 ?_
      refine g_iadd dX13_of_34 ?_
      refine g_iald dX13_of_35 h (fun v3 h => ?_)
      refine g_i2l dX13_of_36 ?_
      refine g_lret dX13_of_37 hxt ?_
      have e := Option.some.inj h
      exact Kret _ e
    · have h := zite_n h c
      refine g_lconst (v := (0 : Int64)) dX13_of_25 (by decide) ?_
      refine g_goto 37 dX13_of_26 (by decide) ?_
      refine g_lret dX13_of_37 hxt ?_
      have e := Option.some.inj h
      exact Kret _ e
def q_X14_of (rec : (Option Nat → Option Nat → Option Int64) × (Option Nat → Option Nat → Option Int32)) (g : zGd) (m : zMm) (a0 : Option Nat) (a1 : Option Nat) : Option (Int64) :=
(zgr g m 14 0 a0).bind fun r1 =>
(rec.1 r1 a1).bind fun w2 =>
if w2 < (0 : Int64) then (some ((0 : Int64)))
else (if w2 < (6 : Int64) then ((zald 101 g m a1 ((13 : Int32) + (w2.toInt32))).bind fun v3 =>
some ((v3.toInt64)))
else (some ((0 : Int64))))
set_option maxHeartbeats 4000000 in
theorem qk_X14_of (l : Launch) (g : zGd) (m : zMm) (fR lR : Nat) (rec : (Option Nat → Option Nat → Option Int64) × (Option Nat → Option Nat → Option Int32)) (hrec : zRcS l g m fR lR rec.1 ∧ zRcA l g m fR lR rec.2) (a0 : Option Nat) (a1 : Option Nat) (z0 : Int64) (h : q_X14_of rec g m a0 a1 = some z0) : zCT l yX14_of cX14_of 4 (some .long) (4 + fR) (84 + lR) g m [va_rf a0, va_rf a1] (some (.long z0)) g m := by
  refine zCT.of (own := "QuiverKin$Quiver") (mn := "of") (by decide +kernel) rfl rfl (zla_r (zla_r zla_0)) (zls_r (zls_r zls_0)) (by decide) (fun X hxl hxg hxf hxt hxr hxn => ?_)
  have Kret : ∀ (y0 : Int64), y0 = z0 → zRe X g m (some (.long y0)) := by
    intro y0 e; cases e; exact ⟨hxf, hxr, hxn⟩
  subst hxl
  show zG X cX14_of 4 "QuiverKin$Quiver" "of" (4 + fR) (84 + lR) 0 [(0, va_rf a0), (1, va_rf a1)] [] g m
  unfold q_X14_of at h
  refine g_aload_n dX14_of_0 0 rfl ?_
  refine gf_r zfd_14_0 q783  (fun _ h9 => h9) dX14_of_1 h (fun r1 h => ?_)
  refine g_aload_n dX14_of_4 1 rfl ?_
  refine g_cFS hrec.1 q1044 ⟨by omega, by omega⟩ zc_0 (by decide) dX14_of_5 h (fun w2 h => ?_)
  refine g_lstore_n [(2, .long w2), (0, va_rf a0), (1, va_rf a1)] dX14_of_10 (by decide) (zF_r (zF_r zF_0)) rfl ?_
  refine g_lload_n dX14_of_11 0 rfl ?_
  refine g_lconst (v := (0 : Int64)) dX14_of_12 (by decide) ?_
  refine g_lcmp_lt 25 dX14_of_13 dX14_of_14 (by decide) (fun c => ?_) (fun c => ?_)
  · have h := zite_p h c
    refine g_lconst (v := (0 : Int64)) dX14_of_25 (by decide) ?_
    refine g_goto 37 dX14_of_26 (by decide) ?_
    refine g_lret dX14_of_37 hxt ?_
    have e := Option.some.inj h
    exact Kret _ e
  · have h := zite_n h c
    refine g_lload_n dX14_of_17 0 rfl ?_
    refine g_ldc2 (v := (6 : Int64)) q1045 dX14_of_18 ?_
    refine g_lcmp_lt 29 dX14_of_21 dX14_of_22 (by decide) (fun c => ?_) (fun c => ?_)
    · have h := zite_p h c
      refine g_aload_n dX14_of_29 2 rfl ?_
      refine g_bipush (v := (13 : Int32)) dX14_of_30 (by decide) ?_
      refine g_lload_n dX14_of_32 0 rfl ?_
      refine g_l2i dX14_of_33 ?_
      refine g_iadd dX14_of_34 ?_
      refine g_iald dX14_of_35 h (fun v3 h => ?_)
      refine g_i2l dX14_of_36 ?_
      refine g_lret dX14_of_37 hxt ?_
      have e := Option.some.inj h
      exact Kret _ e
    · have h := zite_n h c
      refine g_lconst (v := (0 : Int64)) dX14_of_25 (by decide) ?_
      refine g_goto 37 dX14_of_26 (by decide) ?_
      refine g_lret dX14_of_37 hxt ?_
      have e := Option.some.inj h
      exact Kret _ e
def q_X15_of (rec : (Option Nat → Option Nat → Option Int64) × (Option Nat → Option Nat → Option Int32)) (g : zGd) (m : zMm) (a0 : Option Nat) (a1 : Option Nat) : Option (Int64) :=
(zgr g m 15 0 a0).bind fun r1 =>
(rec.1 r1 a1).bind fun w2 =>
some ((-w2))
set_option maxHeartbeats 4000000 in
theorem qk_X15_of (l : Launch) (g : zGd) (m : zMm) (fR lR : Nat) (rec : (Option Nat → Option Nat → Option Int64) × (Option Nat → Option Nat → Option Int32)) (hrec : zRcS l g m fR lR rec.1 ∧ zRcA l g m fR lR rec.2) (a0 : Option Nat) (a1 : Option Nat) (z0 : Int64) (h : q_X15_of rec g m a0 a1 = some z0) : zCT l yX15_of cX15_of 2 (some .long) (4 + fR) (84 + lR) g m [va_rf a0, va_rf a1] (some (.long z0)) g m := by
  refine zCT.of (own := "QuiverKin$Minus") (mn := "of") (by decide +kernel) rfl rfl (zla_r (zla_r zla_0)) (zls_r (zls_r zls_0)) (by decide) (fun X hxl hxg hxf hxt hxr hxn => ?_)
  have Kret : ∀ (y0 : Int64), y0 = z0 → zRe X g m (some (.long y0)) := by
    intro y0 e; cases e; exact ⟨hxf, hxr, hxn⟩
  subst hxl
  show zG X cX15_of 2 "QuiverKin$Minus" "of" (4 + fR) (84 + lR) 0 [(0, va_rf a0), (1, va_rf a1)] [] g m
  unfold q_X15_of at h
  refine g_aload_n dX15_of_0 0 rfl ?_
  refine gf_r zfd_15_0 q793  (fun _ h9 => h9) dX15_of_1 h (fun r1 h => ?_)
  refine g_aload_n dX15_of_4 1 rfl ?_
  refine g_cFS hrec.1 q1024 ⟨by omega, by omega⟩ zc_0 (by decide) dX15_of_5 h (fun w2 h => ?_)
  refine g_lneg dX15_of_10 ?_
  refine g_lret dX15_of_11 hxt ?_
  have e := Option.some.inj h
  exact Kret _ e
def q_X8_is (rec : (Option Nat → Option Nat → Option Int64) × (Option Nat → Option Nat → Option Int32)) (g : zGd) (m : zMm) (a0 : Option Nat) (a1 : Option Nat) : Option (Int32) :=
(zgr g m 8 0 a0).bind fun r1 =>
(rec.2 r1 a1).bind fun v2 =>
if v2 = 0 then (some ((1 : Int32)))
else (some ((0 : Int32)))
set_option maxHeartbeats 4000000 in
theorem qk_X8_is (l : Launch) (g : zGd) (m : zMm) (fR lR : Nat) (rec : (Option Nat → Option Nat → Option Int64) × (Option Nat → Option Nat → Option Int32)) (hrec : zRcS l g m fR lR rec.1 ∧ zRcA l g m fR lR rec.2) (a0 : Option Nat) (a1 : Option Nat) (z0 : Int32) (h : q_X8_is rec g m a0 a1 = some z0) : zCT l yX8_is cX8_is 2 (some .boolean) (4 + fR) (84 + lR) g m [va_rf a0, va_rf a1] (some (.int z0)) g m := by
  refine zCT.of (own := "QuiverKin$Not") (mn := "is") (by decide +kernel) rfl rfl (zla_r (zla_r zla_0)) (zls_r (zls_r zls_0)) (by decide) (fun X hxl hxg hxf hxt hxr hxn => ?_)
  have Kret : ∀ (y0 : Int32), y0 = z0 → zRe X g m (some (.int y0)) := by
    intro y0 e; cases e; exact ⟨hxf, hxr, hxn⟩
  subst hxl
  show zG X cX8_is 2 "QuiverKin$Not" "is" (4 + fR) (84 + lR) 0 [(0, va_rf a0), (1, va_rf a1)] [] g m
  unfold q_X8_is at h
  refine g_aload_n dX8_is_0 0 rfl ?_
  refine gf_r zfd_8_0 q615  (fun _ h9 => h9) dX8_is_1 h (fun r1 h => ?_)
  refine g_aload_n dX8_is_4 1 rfl ?_
  refine g_cFA hrec.2 q1053 ⟨by omega, by omega⟩ zc_0 (by decide) dX8_is_5 h (fun v2 h => ?_)
  refine g_if_ne 17 dX8_is_10 (by decide) (fun c => ?_) (fun c => ?_)
  · have h := zite_n h c
    refine g_iconst (v := (0 : Int32)) dX8_is_17 (by decide) ?_
    refine g_zret dX8_is_18 hxt rfl ?_
    have e := Option.some.inj h
    exact Kret _ e
  · have h := zite_p h c
    refine g_iconst (v := (1 : Int32)) dX8_is_13 (by decide) ?_
    refine g_goto 18 dX8_is_14 (by decide) ?_
    refine g_zret dX8_is_18 hxt rfl ?_
    have e := Option.some.inj h
    exact Kret _ e
def q_X9_is (rec : (Option Nat → Option Nat → Option Int64) × (Option Nat → Option Nat → Option Int32)) (g : zGd) (m : zMm) (a0 : Option Nat) (a1 : Option Nat) : Option (Int32) :=
(zgr g m 9 1 a0).bind fun r1 =>
(rec.1 r1 a1).bind fun w2 =>
(zgr g m 9 2 a0).bind fun r3 =>
(rec.1 r3 a1).bind fun w4 =>
zlt (w2 - w4) fun w5 =>
(zgi g m 9 0 a0).bind fun v6 =>
if v6 = (35 : Int32) then (if w5 = (0 : Int64) then (some ((0 : Int32)))
else (some ((1 : Int32))))
else if v6 = (60 : Int32) then (if (0 : Int64) ≤ w5 then (some ((0 : Int32)))
else (some ((1 : Int32))))
else if v6 = (61 : Int32) then (if w5 = (0 : Int64) then (some ((1 : Int32)))
else (some ((0 : Int32))))
else if v6 = (62 : Int32) then (if w5 ≤ (0 : Int64) then (some ((0 : Int32)))
else (some ((1 : Int32))))
else if v6 = (303 : Int32) then (if (0 : Int64) < w5 then (some ((0 : Int32)))
else (some ((1 : Int32))))
else (if w5 < (0 : Int64) then (some ((0 : Int32)))
else (some ((1 : Int32))))
set_option maxHeartbeats 4000000 in
theorem qk_X9_is (l : Launch) (g : zGd) (m : zMm) (fR lR : Nat) (rec : (Option Nat → Option Nat → Option Int64) × (Option Nat → Option Nat → Option Int32)) (hrec : zRcS l g m fR lR rec.1 ∧ zRcA l g m fR lR rec.2) (a0 : Option Nat) (a1 : Option Nat) (z0 : Int32) (h : q_X9_is rec g m a0 a1 = some z0) : zCT l yX9_is cX9_is 4 (some .boolean) (4 + fR) (84 + lR) g m [va_rf a0, va_rf a1] (some (.int z0)) g m := by
  refine zCT.of (own := "QuiverKin$Compared") (mn := "is") (by decide +kernel) rfl rfl (zla_r (zla_r zla_0)) (zls_r (zls_r zls_0)) (by decide) (fun X hxl hxg hxf hxt hxr hxn => ?_)
  have Kret : ∀ (y0 : Int32), y0 = z0 → zRe X g m (some (.int y0)) := by
    intro y0 e; cases e; exact ⟨hxf, hxr, hxn⟩
  subst hxl
  show zG X cX9_is 4 "QuiverKin$Compared" "is" (4 + fR) (84 + lR) 0 [(0, va_rf a0), (1, va_rf a1)] [] g m
  unfold q_X9_is at h
  refine g_aload_n dX9_is_0 0 rfl ?_
  refine gf_r zfd_9_1 q626  (fun _ h9 => h9) dX9_is_1 h (fun r1 h => ?_)
  refine g_aload_n dX9_is_4 1 rfl ?_
  refine g_cFS hrec.1 q1016 ⟨by omega, by omega⟩ zc_0 (by decide) dX9_is_5 h (fun w2 h => ?_)
  refine g_aload_n dX9_is_10 0 rfl ?_
  refine gf_r zfd_9_2 q627  (fun _ h9 => h9) dX9_is_11 h (fun r3 h => ?_)
  refine g_aload_n dX9_is_14 1 rfl ?_
  refine g_cFS hrec.1 q1016 ⟨by omega, by omega⟩ (zc_l zc_0) (by decide) dX9_is_15 h (fun w4 h => ?_)
  refine g_lsub dX9_is_20 ?_
  refine g_letl h (fun w5 h => ?_)
  refine g_lstore_n [(2, .long w5), (0, va_rf a0), (1, va_rf a1)] dX9_is_21 (by decide) (zF_r (zF_r zF_0)) rfl ?_
  refine g_aload_n dX9_is_22 1 rfl ?_
  refine gf_i zfd_9_0 q625  (fun _ h9 => h9) dX9_is_23 h (fun v6 h => ?_)
  rcases Decidable.em (v6 = (35 : Int32)) with c | c35
  · have h := zite_p h c
    refine g_lsw (off := 86) 112 dX9_is_26 (by decide) (by rw [c]; decide) (by decide) ?_
    refine g_lload_n dX9_is_112 0 rfl ?_
    refine g_lconst (v := (0 : Int64)) dX9_is_113 (by decide) ?_
    refine g_lcmp_eq 122 dX9_is_114 dX9_is_115 (by decide) (fun c => ?_) (fun c => ?_)
    · have h := zite_p h c
      refine g_iconst (v := (0 : Int32)) dX9_is_122 (by decide) ?_
      refine g_zret dX9_is_123 hxt rfl ?_
      have e := Option.some.inj h
      exact Kret _ e
    · have h := zite_n h c
      refine g_iconst (v := (1 : Int32)) dX9_is_118 (by decide) ?_
      refine g_goto 123 dX9_is_119 (by decide) ?_
      refine g_zret dX9_is_123 hxt rfl ?_
      have e := Option.some.inj h
      exact Kret _ e
  have h := zite_n h c35
  rcases Decidable.em (v6 = (60 : Int32)) with c | c60
  · have h := zite_p h c
    refine g_lsw (off := 50) 76 dX9_is_26 (by decide) (by rw [c]; decide) (by decide) ?_
    refine g_lload_n dX9_is_76 0 rfl ?_
    refine g_lconst (v := (0 : Int64)) dX9_is_77 (by decide) ?_
    refine g_lcmp_ge 86 dX9_is_78 dX9_is_79 (by decide) (fun c => ?_) (fun c => ?_)
    · have h := zite_p h c
      refine g_iconst (v := (0 : Int32)) dX9_is_86 (by decide) ?_
      refine g_zret dX9_is_87 hxt rfl ?_
      have e := Option.some.inj h
      exact Kret _ e
    · have h := zite_n h c
      refine g_iconst (v := (1 : Int32)) dX9_is_82 (by decide) ?_
      refine g_goto 87 dX9_is_83 (by decide) ?_
      refine g_zret dX9_is_87 hxt rfl ?_
      have e := Option.some.inj h
      exact Kret _ e
  have h := zite_n h c60
  rcases Decidable.em (v6 = (61 : Int32)) with c | c61
  · have h := zite_p h c
    refine g_lsw (off := 74) 100 dX9_is_26 (by decide) (by rw [c]; decide) (by decide) ?_
    refine g_lload_n dX9_is_100 0 rfl ?_
    refine g_lconst (v := (0 : Int64)) dX9_is_101 (by decide) ?_
    refine g_lcmp_ne 110 dX9_is_102 dX9_is_103 (by decide) (fun c => ?_) (fun c => ?_)
    · have h := zite_n h c
      refine g_iconst (v := (0 : Int32)) dX9_is_110 (by decide) ?_
      refine g_zret dX9_is_111 hxt rfl ?_
      have e := Option.some.inj h
      exact Kret _ e
    · have h := zite_p h c
      refine g_iconst (v := (1 : Int32)) dX9_is_106 (by decide) ?_
      refine g_goto 111 dX9_is_107 (by decide) ?_
      refine g_zret dX9_is_111 hxt rfl ?_
      have e := Option.some.inj h
      exact Kret _ e
  have h := zite_n h c61
  rcases Decidable.em (v6 = (62 : Int32)) with c | c62
  · have h := zite_p h c
    refine g_lsw (off := 62) 88 dX9_is_26 (by decide) (by rw [c]; decide) (by decide) ?_
    refine g_lload_n dX9_is_88 0 rfl ?_
    refine g_lconst (v := (0 : Int64)) dX9_is_89 (by decide) ?_
    refine g_lcmp_le 98 dX9_is_90 dX9_is_91 (by decide) (fun c => ?_) (fun c => ?_)
    · have h := zite_p h c
      refine g_iconst (v := (0 : Int32)) dX9_is_98 (by decide) ?_
      refine g_zret dX9_is_99 hxt rfl ?_
      have e := Option.some.inj h
      exact Kret _ e
    · have h := zite_n h c
      refine g_iconst (v := (1 : Int32)) dX9_is_94 (by decide) ?_
      refine g_goto 99 dX9_is_95 (by decide) ?_
      refine g_zret dX9_is_99 hxt rfl ?_
      have e := Option.some.inj h
      exact Kret _ e
  have h := zite_n h c62
  rcases Decidable.em (v6 = (303 : Int32)) with c | c303
  · have h := zite_p h c
    refine g_lsw (off := 98) 124 dX9_is_26 (by decide) (by rw [c]; decide) (by decide) ?_
    refine g_lload_n dX9_is_124 0 rfl ?_
    refine g_lconst (v := (0 : Int64)) dX9_is_125 (by decide) ?_
    refine g_lcmp_gt 134 dX9_is_126 dX9_is_127 (by decide) (fun c => ?_) (fun c => ?_)
    · have h := zite_p h c
      refine g_iconst (v := (0 : Int32)) dX9_is_134 (by decide) ?_
      refine g_zret dX9_is_135 hxt rfl ?_
      have e := Option.some.inj h
      exact Kret _ e
    · have h := zite_n h c
      refine g_iconst (v := (1 : Int32)) dX9_is_130 (by decide) ?_
      refine g_goto 135 dX9_is_131 (by decide) ?_
      refine g_zret dX9_is_135 hxt rfl ?_
      have e := Option.some.inj h
      exact Kret _ e
  have h := zite_n h c303
  refine g_lsw (off := 110) 136 dX9_is_26 (by decide) ((lv_osw c35 rfl).trans ((lv_osw c60 rfl).trans ((lv_osw c61 rfl).trans ((lv_osw c62 rfl).trans ((lv_osw c303 rfl).trans rfl))))) (by decide) ?_
  refine g_lload_n dX9_is_136 0 rfl ?_
  refine g_lconst (v := (0 : Int64)) dX9_is_137 (by decide) ?_
  refine g_lcmp_lt 146 dX9_is_138 dX9_is_139 (by decide) (fun c => ?_) (fun c => ?_)
  · have h := zite_p h c
    refine g_iconst (v := (0 : Int32)) dX9_is_146 (by decide) ?_
    refine g_zret dX9_is_147 hxt rfl ?_
    have e := Option.some.inj h
    exact Kret _ e
  · have h := zite_n h c
    refine g_iconst (v := (1 : Int32)) dX9_is_142 (by decide) ?_
    refine g_goto 147 dX9_is_143 (by decide) ?_
    refine g_zret dX9_is_147 hxt rfl ?_
    have e := Option.some.inj h
    exact Kret _ e
def b_X10_is_4 (g : zGd) (m : zMm) (rec : (Option Nat → Option Nat → Option Int64) × (Option Nat → Option Nat → Option Int32)) (a0 : Option Nat) (a1 : Option Nat) : Int32 × Int32 → Option ((Int32) ⊕ (Int32 × Int32)) := fun (v4, v5) =>
(zgr g m 10 1 a0).bind fun r6 =>
(zrc g 17 r6 (f_J2_size g m r6)).bind fun v7 =>
if v7 ≤ v5 then (some (.inl v4))
else ((zgr g m 10 1 a0).bind fun r8 =>
(zrc g 17 r8 (f_J2_get g m r8 v5)).bind fun r9 =>
(zcst [8, 9, 10] g r9).bind fun _ =>
(rec.2 r9 a1).bind fun v10 =>
if v10 = 0 then (zlt (v4 + (0 : Int32)) fun v11 =>
zlt (v5 + (1 : Int32)) fun v12 =>
some (.inr (v11, v12)))
else (zlt (v4 + (1 : Int32)) fun v13 =>
zlt (v5 + (1 : Int32)) fun v14 =>
some (.inr (v13, v14))))
def q_X10_is (rec : (Option Nat → Option Nat → Option Int64) × (Option Nat → Option Nat → Option Int32)) (g : zGd) (m : zMm) (a0 : Option Nat) (a1 : Option Nat) : Option (Int32) :=
(zLoop (b_X10_is_4 g m rec a0 a1) zFuel ((0 : Int32), (0 : Int32))).bind fun v2 =>
(zgi g m 10 0 a0).bind fun v15 =>
if v15 = 0 then (if v2 ≤ 0 then (some ((0 : Int32)))
else (some ((1 : Int32))))
else ((zgr g m 10 1 a0).bind fun r16 =>
(zrc g 17 r16 (f_J2_size g m r16)).bind fun v17 =>
if v2 = v17 then (some ((1 : Int32)))
else (some ((0 : Int32))))
set_option maxHeartbeats 4000000 in
theorem qk_X10_is (l : Launch) (g : zGd) (m : zMm) (fR lR : Nat) (rec : (Option Nat → Option Nat → Option Int64) × (Option Nat → Option Nat → Option Int32)) (hrec : zRcS l g m fR lR rec.1 ∧ zRcA l g m fR lR rec.2) (a0 : Option Nat) (a1 : Option Nat) (z0 : Int32) (h : q_X10_is rec g m a0 a1 = some z0) : zCT l yX10_is cX10_is 4 (some .boolean) (4 + fR) (84 + lR) g m [va_rf a0, va_rf a1] (some (.int z0)) g m := by
  refine zCT.of (own := "QuiverKin$All") (mn := "is") (by decide +kernel) rfl rfl (zla_r (zla_r zla_0)) (zls_r (zls_r zls_0)) (by decide) (fun X hxl hxg hxf hxt hxr hxn => ?_)
  have Kret : ∀ (y0 : Int32), y0 = z0 → zRe X g m (some (.int y0)) := by
    intro y0 e; cases e; exact ⟨hxf, hxr, hxn⟩
  subst hxl
  show zG X cX10_is 4 "QuiverKin$All" "is" (4 + fR) (84 + lR) 0 [(0, va_rf a0), (1, va_rf a1)] [] g m
  unfold q_X10_is at h
  refine g_iconst (v := (0 : Int32)) dX10_is_0 (by decide) ?_
  refine g_istore_n [(2, .int (0 : Int32)), (0, va_rf a0), (1, va_rf a1)] dX10_is_1 (by decide) (zf_r (zf_r zf_0)) rfl ?_
  refine g_iconst (v := (0 : Int32)) dX10_is_2 (by decide) ?_
  refine g_istore_n [(3, .int (0 : Int32)), (2, .int (0 : Int32)), (0, va_rf a0), (1, va_rf a1)] dX10_is_3 (by decide) (zf_i (zf_r (zf_r zf_0))) rfl ?_
  obtain ⟨o1, h1, h2⟩ := zB_e h
  have K1 : ∀ (v2 : Int32), o1 = v2 → zG X cX10_is 4 "QuiverKin$All" "is" (4 + fR) (84 + lR) 49 [(0, va_rf a0), (2, .int v2)] [] g m := by
    intro v2 e
    rw [e] at h2
    have h := h2
    refine g_aload_n dX10_is_49 0 rfl ?_
    refine gf_i zfd_10_0 q720  (fun _ h9 => h9) dX10_is_50 h (fun v15 h => ?_)
    refine g_if_eq 75 dX10_is_53 (by decide) (fun c => ?_) (fun c => ?_)
    · have h := zite_p h c
      refine g_iload_n dX10_is_75 1 rfl ?_
      refine g_if_le 83 dX10_is_76 (by decide) (fun c => ?_) (fun c => ?_)
      · have h := zite_p h c
        refine g_iconst (v := (0 : Int32)) dX10_is_83 (by decide) ?_
        refine g_zret dX10_is_84 hxt rfl ?_
        have e := Option.some.inj h
        exact Kret _ e
      · have h := zite_n h c
        refine g_iconst (v := (1 : Int32)) dX10_is_79 (by decide) ?_
        refine g_goto 84 dX10_is_80 (by decide) ?_
        refine g_zret dX10_is_84 hxt rfl ?_
        have e := Option.some.inj h
        exact Kret _ e
    · have h := zite_n h c
      refine g_iload_n dX10_is_56 1 rfl ?_
      refine g_aload_n dX10_is_57 0 rfl ?_
      refine gf_r zfd_10_1 q721  (fun _ h9 => h9) dX10_is_58 h (fun r16 h => ?_)
      refine g_cVRv (rv := fun x : Int32 => Value.int x) [] (fun x0 e0 => ok_J2_size (xl X) g m r16 x0 e0) zc17 (by decide) (lw_V q1004 q698 q699 q131 q700) rfl hy_J2_size rfl ⟨by omega, by omega⟩ rfl (zc_i zc_0) (by decide) dX10_is_61 h (fun v17 h => ?_)
      refine g_icmp_ne 71 dX10_is_64 (by decide) (fun c => ?_) (fun c => ?_)
      · have h := zite_n h c
        refine g_iconst (v := (0 : Int32)) dX10_is_71 (by decide) ?_
        refine g_goto 84 dX10_is_72 (by decide) ?_
        refine g_zret dX10_is_84 hxt rfl ?_
        have e := Option.some.inj h
        exact Kret _ e
      · have h := zite_p h c
        refine g_iconst (v := (1 : Int32)) dX10_is_67 (by decide) ?_
        refine g_goto 84 dX10_is_68 (by decide) ?_
        refine g_zret dX10_is_84 hxt rfl ?_
        have e := Option.some.inj h
        exact Kret _ e
  refine zG.sub [2, 3, 1, 0] rfl ?_
  refine zLoop_ok (Φ := (fun (q : Int32 × Int32) => match q with | (v4, v5) => zG X cX10_is 4 "QuiverKin$All" "is" (4 + fR) (84 + lR) 4 [(0, va_rf a0), (1, va_rf a1), (2, .int v4), (3, .int v5)] [] g m)) o1 ?_ zFuel _ h1
  rintro ⟨v4, v5⟩ x3 h hl3 hr3
  unfold b_X10_is_4 at h
  have K3 : ∀ (v4 : Int32) (v5 : Int32), x3 = .inr (v4, v5) → zG X cX10_is 4 "QuiverKin$All" "is" (4 + fR) (84 + lR) 4 [(0, va_rf a0), (1, va_rf a1), (2, .int v4), (3, .int v5)] [] g m := by
    intro v4 v5 e
    exact hr3 _ e
  show zG X cX10_is 4 "QuiverKin$All" "is" (4 + fR) (84 + lR) 4 [(0, va_rf a0), (1, va_rf a1), (2, .int v4), (3, .int v5)] [] g m
  refine g_iload_n dX10_is_4 3 rfl ?_
  refine g_aload_n dX10_is_5 0 rfl ?_
  refine gf_r zfd_10_1 q721  (fun _ h9 => h9) dX10_is_6 h (fun r6 h => ?_)
  refine g_cVRv (rv := fun x : Int32 => Value.int x) [] (fun x0 e0 => ok_J2_size (xl X) g m r6 x0 e0) zc17 (by decide) (lw_V q1004 q698 q699 q131 q700) rfl hy_J2_size rfl ⟨by omega, by omega⟩ rfl (zc_i zc_0) (by decide) dX10_is_9 h (fun v7 h => ?_)
  refine g_icmp_ge 49 dX10_is_12 (by decide) (fun c => ?_) (fun c => ?_)
  · have h := zite_p h c
    refine zG.sub [0, 2] rfl ?_
    have e := Option.some.inj h
    have e := hl3 _ e.symm
    exact K1 _ e.symm
  · have h := zite_n h c
    refine g_iload_n dX10_is_15 2 rfl ?_
    refine g_aload_n dX10_is_16 0 rfl ?_
    refine gf_r zfd_10_1 q721  (fun _ h9 => h9) dX10_is_17 h (fun r8 h => ?_)
    refine g_iload_n dX10_is_20 3 rfl ?_
    refine g_cVRv (rv := fun x : Option Nat => va_rf x) [.int v5] (fun x0 e0 => ok_J2_get (xl X) g m r8 v5 x0 e0) zc17 (by decide) (lw_V q1005 q702 q703 q131 q704) rfl hy_J2_get rfl ⟨by omega, by omega⟩ rfl (zc_i zc_0) (by decide) dX10_is_21 h (fun r9 h => ?_)
    refine g_cast [8, 9, 10] q1006 zcsA dX10_is_24 h (fun h => ?_)
    refine g_aload_n dX10_is_27 1 rfl ?_
    refine g_cFA hrec.2 q1008 ⟨by omega, by omega⟩ (zc_i zc_0) (by decide) dX10_is_28 h (fun v10 h => ?_)
    refine g_if_eq 40 dX10_is_33 (by decide) (fun c => ?_) (fun c => ?_)
    · have h := zite_p h c
      refine g_iconst (v := (0 : Int32)) dX10_is_40 (by decide) ?_
      refine g_iadd dX10_is_41 ?_
      refine g_leti h (fun v11 h => ?_)
      refine g_istore_n [(2, .int v11), (0, va_rf a0), (1, va_rf a1), (3, .int v5)] dX10_is_42 (by decide) (zf_r (zf_r (zf_i (zf_i zf_0)))) rfl ?_
      refine g_iinc (v := (1 : Int32)) [(2, .int v11), (0, va_rf a0), (1, va_rf a1)] dX10_is_43 3 rfl (by decide) (by decide) (zf_i (zf_r (zf_r (zf_i zf_0)))) rfl h (fun v12 h => ?_)
      refine g_goto 4 dX10_is_46 (by decide) ?_
      refine zG.sub [2, 3, 1, 0] rfl ?_
      have e := Option.some.inj h
      exact K3 _ _ e.symm
    · have h := zite_n h c
      refine g_iconst (v := (1 : Int32)) dX10_is_36 (by decide) ?_
      refine g_goto 41 dX10_is_37 (by decide) ?_
      refine g_iadd dX10_is_41 ?_
      refine g_leti h (fun v13 h => ?_)
      refine g_istore_n [(2, .int v13), (0, va_rf a0), (1, va_rf a1), (3, .int v5)] dX10_is_42 (by decide) (zf_r (zf_r (zf_i (zf_i zf_0)))) rfl ?_
      refine g_iinc (v := (1 : Int32)) [(2, .int v13), (0, va_rf a0), (1, va_rf a1)] dX10_is_43 3 rfl (by decide) (by decide) (zf_i (zf_r (zf_r (zf_i zf_0)))) rfl h (fun v14 h => ?_)
      refine g_goto 4 dX10_is_46 (by decide) ?_
      refine zG.sub [2, 3, 1, 0] rfl ?_
      have e := Option.some.inj h
      exact K3 _ _ e.symm
def r_E : Nat → zGd → zMm → (Option Nat → Option Nat → Option Int64) × (Option Nat → Option Nat → Option Int32)
  | 0, _, _ => (fun _ _ => none, fun _ _ => none)
  | d + 1, g, m => ((fun a b => a.bind fun a0 => if (zK g a0).1 = 7 then q_X6_of (r_E d g m) g m (some a0) b else if (zK g a0).1 = 8 then q_X7_of (r_E d g m) g m (some a0) b else if (zK g a0).1 = 12 then q_X11_of (r_E d g m) g m (some a0) b else if (zK g a0).1 = 13 then q_X12_of (r_E d g m) g m (some a0) b else if (zK g a0).1 = 14 then q_X13_of (r_E d g m) g m (some a0) b else if (zK g a0).1 = 15 then q_X14_of (r_E d g m) g m (some a0) b else if (zK g a0).1 = 16 then q_X15_of (r_E d g m) g m (some a0) b else none), (fun a b => a.bind fun a0 => if (zK g a0).1 = 9 then q_X8_is (r_E d g m) g m (some a0) b else if (zK g a0).1 = 10 then q_X9_is (r_E d g m) g m (some a0) b else if (zK g a0).1 = 11 then q_X10_is (r_E d g m) g m (some a0) b else none))
theorem okr_E (l : Launch) (g : zGd) (m : zMm) : ∀ d : Nat, zRcS l g m (4 * d) (84 * d) (r_E d g m).1 ∧ zRcA l g m (4 * d) (84 * d) (r_E d g m).2
  | 0 => ⟨fun a b r h => (by cases h), fun a b r h => (by cases h)⟩
  | d + 1 => by
    have ih := okr_E l g m d
    rw [Nat.mul_succ, Nat.mul_succ, Nat.add_comm (4 * d), Nat.add_comm (84 * d)]
    refine ⟨fun a b r h => ?_, fun a b r h => ?_⟩
    · cases a with
      | none => cases h
      | some a0 =>
        change (if (zK g a0).1 = 7 then q_X6_of (r_E d g m) g m (some a0) b else if (zK g a0).1 = 8 then q_X7_of (r_E d g m) g m (some a0) b else if (zK g a0).1 = 12 then q_X11_of (r_E d g m) g m (some a0) b else if (zK g a0).1 = 13 then q_X12_of (r_E d g m) g m (some a0) b else if (zK g a0).1 = 14 then q_X13_of (r_E d g m) g m (some a0) b else if (zK g a0).1 = 15 then q_X14_of (r_E d g m) g m (some a0) b else if (zK g a0).1 = 16 then q_X15_of (r_E d g m) g m (some a0) b else none) = some r at h
        by_cases e6 : (zK g a0).1 = 7
        · rw [if_pos e6] at h
          exact ⟨a0, 6, rfl, by decide, e6, by decide, qk_X6_of l g m _ _ (r_E d g m) ih (some a0) b r h⟩
        rw [if_neg e6] at h
        by_cases e7 : (zK g a0).1 = 8
        · rw [if_pos e7] at h
          exact ⟨a0, 7, rfl, by decide, e7, by decide, qk_X7_of l g m _ _ (r_E d g m) ih (some a0) b r h⟩
        rw [if_neg e7] at h
        by_cases e11 : (zK g a0).1 = 12
        · rw [if_pos e11] at h
          exact ⟨a0, 11, rfl, by decide, e11, by decide, qk_X11_of l g m _ _ (r_E d g m) ih (some a0) b r h⟩
        rw [if_neg e11] at h
        by_cases e12 : (zK g a0).1 = 13
        · rw [if_pos e12] at h
          exact ⟨a0, 12, rfl, by decide, e12, by decide, qk_X12_of l g m _ _ (r_E d g m) ih (some a0) b r h⟩
        rw [if_neg e12] at h
        by_cases e13 : (zK g a0).1 = 14
        · rw [if_pos e13] at h
          exact ⟨a0, 13, rfl, by decide, e13, by decide, qk_X13_of l g m _ _ (r_E d g m) ih (some a0) b r h⟩
        rw [if_neg e13] at h
        by_cases e14 : (zK g a0).1 = 15
        · rw [if_pos e14] at h
          exact ⟨a0, 14, rfl, by decide, e14, by decide, qk_X14_of l g m _ _ (r_E d g m) ih (some a0) b r h⟩
        rw [if_neg e14] at h
        by_cases e15 : (zK g a0).1 = 16
        · rw [if_pos e15] at h
          exact ⟨a0, 15, rfl, by decide, e15, by decide, qk_X15_of l g m _ _ (r_E d g m) ih (some a0) b r h⟩
        rw [if_neg e15] at h
        cases h
    · cases a with
      | none => cases h
      | some a0 =>
        change (if (zK g a0).1 = 9 then q_X8_is (r_E d g m) g m (some a0) b else if (zK g a0).1 = 10 then q_X9_is (r_E d g m) g m (some a0) b else if (zK g a0).1 = 11 then q_X10_is (r_E d g m) g m (some a0) b else none) = some r at h
        by_cases e8 : (zK g a0).1 = 9
        · rw [if_pos e8] at h
          exact ⟨a0, 8, rfl, by decide, e8, by decide, qk_X8_is l g m _ _ (r_E d g m) ih (some a0) b r h⟩
        rw [if_neg e8] at h
        by_cases e9 : (zK g a0).1 = 10
        · rw [if_pos e9] at h
          exact ⟨a0, 9, rfl, by decide, e9, by decide, qk_X9_is l g m _ _ (r_E d g m) ih (some a0) b r h⟩
        rw [if_neg e9] at h
        by_cases e10 : (zK g a0).1 = 11
        · rw [if_pos e10] at h
          exact ⟨a0, 10, rfl, by decide, e10, by decide, qk_X10_is l g m _ _ (r_E d g m) ih (some a0) b r h⟩
        rw [if_neg e10] at h
        cases h
/-! QuiverKin.bearsOf -/
def f_X0_bearsOf (g : zGd) (m : zMm) (a0 : Option Nat) (a1 : Option Nat) (a2 : Int32) : Option (Int32 × zMm) :=
(zrc g 0 a0 (f_X0_namesOf g m a0 a1 a2)).bind fun m1 =>
(zgr g m1 0 6 a0).bind fun r2 =>
(zald 101 g m1 a1 (15 : Int32)).bind fun v3 =>
(zast 101 g m1 r2 (6 : Int32) v3).bind fun m4 =>
(zrc g 0 a0 (f_X0_rules g m4 a0)).bind fun r5 =>
(zgr g m4 4 0 r5).bind fun r6 =>
(zaldr 107 g m4 r6 (1 : Int32)).bind fun r7 =>
((if r7 = none then (some ((5 : Int64)))
else ((zrc g 0 a0 (f_X0_rules g m4 a0)).bind fun r10 =>
(zgr g m4 4 0 r10).bind fun r11 =>
(zaldr 107 g m4 r11 (1 : Int32)).bind fun r12 =>
(zgr g m4 0 6 a0).bind fun r13 =>
((r_E 70 g m4).1 r12 r13).bind fun w14 =>
some (w14)) : Option (Int64))).bind fun w9 =>
(f_X0_held w9 (0 : Int32) (99 : Int32)).bind fun v15 =>
some ((v15, m4))
theorem hy_X0_bearsOf : zHy yX0_bearsOf 2 := ⟨by decide, by decide, by decide +kernel⟩
set_option maxHeartbeats 4000000 in
theorem ok_X0_bearsOf (l : Launch) (g : zGd) (m : zMm) (a0 : Option Nat) (a1 : Option Nat) (a2 : Int32) (z0 : Int32) (m0 : zMm) (h : f_X0_bearsOf g m a0 a1 a2 = some (z0, m0)) : zCT l yX0_bearsOf cX0_bearsOf 3 (some .int) 281 5928 g m [va_rf a0, va_rf a1, .int a2] (some (.int z0)) g m0 := by
  refine zCT.of (own := "QuiverKin") (mn := "bearsOf") (by decide +kernel) rfl rfl (zla_r (zla_r (zla_i zla_0))) (zls_r (zls_r (zls_i zls_0))) (by decide) (fun X hxl hxg hxf hxt hxr hxn => ?_)
  have Kret : ∀ (y0 : Int32) (y1 : zMm), (y0, y1) = (z0, m0) → zRe X g y1 (some (.int y0)) := by
    intro y0 y1 e; cases e; exact ⟨hxf, hxr, hxn⟩
  subst hxl
  show zG X cX0_bearsOf 3 "QuiverKin" "bearsOf" 281 5928 0 [(0, va_rf a0), (1, va_rf a1), (2, .int a2)] [] g m
  unfold f_X0_bearsOf at h
  refine g_aload_n dX0_bearsOf_0 0 rfl ?_
  refine g_aload_n dX0_bearsOf_1 1 rfl ?_
  refine g_iload_n dX0_bearsOf_2 2 rfl ?_
  refine g_cVMn [va_rf a1, .int a2] (fun m0 e0 => ok_X0_namesOf (xl X) g m a0 a1 a2 m0 e0) zc0 (by decide) (lw_V q956 q958 qs32 q123 q959) rfl hy_X0_namesOf rfl ⟨by decide, by decide⟩ rfl zc_0 (by decide) dX0_bearsOf_3 h (fun m1 h => ?_)
  refine g_aload_n dX0_bearsOf_6 0 rfl ?_
  refine gf_r zfd_0_6 q245  (fun _ h9 => h9) dX0_bearsOf_7 h (fun r2 h => ?_)
  refine g_bipush (v := (6 : Int32)) dX0_bearsOf_10 (by decide) ?_
  refine g_aload_n dX0_bearsOf_12 1 rfl ?_
  refine g_bipush (v := (15 : Int32)) dX0_bearsOf_13 (by decide) ?_
  refine g_iald dX0_bearsOf_15 h (fun v3 h => ?_)
  refine g_iast dX0_bearsOf_16 h (fun m4 h => ?_)
  refine g_aload_n dX0_bearsOf_17 0 rfl ?_
  refine g_cVRv (rv := fun x : Option Nat => va_rf x) [] (fun x0 e0 => ok_X0_rules (xl X) g m4 a0 x0 e0) zc0 (by decide) (lw_V q946 q948 qs30 q123 q949) rfl hy_X0_rules rfl ⟨by decide, by decide⟩ rfl zc_0 (by decide) dX0_bearsOf_18 h (fun r5 h => ?_)
  refine gf_rN zfd_4_0 q407  (fun _ h9 => h9) dX0_bearsOf_21 h (fun r6 h => ?_)
  refine g_iconst (v := (1 : Int32)) dX0_bearsOf_24 (by decide) ?_
  refine g_aald 6 rfl rfl (by decide)  dX0_bearsOf_25 h (fun r7 h => ?_)
  obtain ⟨o8, h1, h2⟩ := zB_e h
  have K8 : ∀ (w9 : Int64), o8 = w9 → zG X cX0_bearsOf 3 "QuiverKin" "bearsOf" 281 5928 53 [] [.long w9] g m4 := by
    intro w9 e
    rw [e] at h2
    have h := h2
    refine g_iconst (v := (0 : Int32)) dX0_bearsOf_53 (by decide) ?_
    refine g_bipush (v := (99 : Int32)) dX0_bearsOf_54 (by decide) ?_
    refine g_cSRv (rv := fun x : Int32 => Value.int x) [.long w9, .int (0 : Int32), .int (99 : Int32)] (fun x0 e0 => ok_X0_held (xl X) g m4 w9 (0 : Int32) (99 : Int32) x0 e0) (lw_S q1073 q1074 q123 q1075) hy_X0_held rfl ⟨by decide, by decide⟩ rfl zc_0 (by decide) dX0_bearsOf_56 h (fun v15 h => ?_)
    refine g_iret dX0_bearsOf_59 hxt ?_
    have e := Option.some.inj h
    exact Kret _ _ e
  have h := h1
  refine g_ifnonnull 35 dX0_bearsOf_26 (by decide) (fun c => ?_) (fun c => ?_)
  · have h := zite_n h c
    refine g_aload_n dX0_bearsOf_35 0 rfl ?_
    refine g_cVRv (rv := fun x : Option Nat => va_rf x) [] (fun x0 e0 => ok_X0_rules (xl X) g m4 a0 x0 e0) zc0 (by decide) (lw_V q946 q948 qs30 q123 q949) rfl hy_X0_rules rfl ⟨by decide, by decide⟩ rfl zc_0 (by decide) dX0_bearsOf_36 h (fun r10 h => ?_)
    refine gf_rN zfd_4_0 q407  (fun _ h9 => h9) dX0_bearsOf_39 h (fun r11 h => ?_)
    refine g_iconst (v := (1 : Int32)) dX0_bearsOf_42 (by decide) ?_
    refine g_aald 6 rfl rfl (by decide)  dX0_bearsOf_43 h (fun r12 h => ?_)
    refine g_aload_n dX0_bearsOf_44 0 rfl ?_
    refine gf_r zfd_0_6 q245  (fun _ h9 => h9) dX0_bearsOf_45 h (fun r13 h => ?_)
    refine g_cFS (okr_E (xl X) g m4 70).1 q969 ⟨by decide, by decide⟩ zc_0 (by decide) dX0_bearsOf_48 h (fun w14 h => ?_)
    refine zG.sub [] rfl ?_
    have e := Option.some.inj h
    exact K8 _ e.symm
  · have h := zite_p h c
    refine g_ldc2 (v := (5 : Int64)) q1082 dX0_bearsOf_29 ?_
    refine g_goto 53 dX0_bearsOf_32 (by decide) ?_
    refine zG.sub [] rfl ?_
    have e := Option.some.inj h
    exact K8 _ e.symm
/-! QuiverKin.drawn -/
def f_X0_drawn (g : zGd) (m : zMm) (a0 : Option Nat) (a1 : Int32) : Option (Int32 × zMm) :=
(zald 101 g m a0 (1 : Int32)).bind fun v1 =>
(zmod v1 a1).bind fun v2 =>
(zald 101 g m a0 (1 : Int32)).bind fun v3 =>
(zast 101 g m a0 (1 : Int32) (zrem ((v3 * (673 : Int32)) + (547 : Int32)) (30971 : Int32))).bind fun m4 =>
some ((v2, m4))
theorem hy_X0_drawn : zHy yX0_drawn 2 := ⟨by decide, by decide, by decide +kernel⟩
set_option maxHeartbeats 4000000 in
theorem ok_X0_drawn (l : Launch) (g : zGd) (m : zMm) (a0 : Option Nat) (a1 : Int32) (z0 : Int32) (m0 : zMm) (h : f_X0_drawn g m a0 a1 = some (z0, m0)) : zCT l yX0_drawn cX0_drawn 3 (some .int) 1 20 g m [va_rf a0, .int a1] (some (.int z0)) g m0 := by
  refine zCT.of (own := "QuiverKin") (mn := "drawn") (by decide +kernel) rfl rfl (zla_r (zla_i zla_0)) (zls_r (zls_i zls_0)) (by decide) (fun X hxl hxg hxf hxt hxr hxn => ?_)
  have Kret : ∀ (y0 : Int32) (y1 : zMm), (y0, y1) = (z0, m0) → zRe X g y1 (some (.int y0)) := by
    intro y0 y1 e; cases e; exact ⟨hxf, hxr, hxn⟩
  subst hxl
  show zG X cX0_drawn 3 "QuiverKin" "drawn" 1 20 0 [(0, va_rf a0), (1, .int a1)] [] g m
  unfold f_X0_drawn at h
  refine g_aload_n dX0_drawn_0 0 rfl ?_
  refine g_iconst (v := (1 : Int32)) dX0_drawn_1 (by decide) ?_
  refine g_iald dX0_drawn_2 h (fun v1 h => ?_)
  refine g_iload_n dX0_drawn_3 1 rfl ?_
  refine g_irem dX0_drawn_4 h (fun v2 h => ?_)
  refine g_istore_n [(2, .int v2), (0, va_rf a0), (1, .int a1)] dX0_drawn_5 (by decide) (zf_r (zf_i zf_0)) rfl ?_
  refine g_aload_n dX0_drawn_6 1 rfl ?_
  refine g_iconst (v := (1 : Int32)) dX0_drawn_7 (by decide) ?_
  refine g_aload_n dX0_drawn_8 1 rfl ?_
  refine g_iconst (v := (1 : Int32)) dX0_drawn_9 (by decide) ?_
  refine g_iald dX0_drawn_10 h (fun v3 h => ?_)
  refine g_sipush (v := (673 : Int32)) dX0_drawn_11 (by decide) ?_
  refine g_imul dX0_drawn_14 ?_
  refine g_sipush (v := (547 : Int32)) dX0_drawn_15 (by decide) ?_
  refine g_iadd dX0_drawn_18 ?_
  refine g_sipush (v := (30971 : Int32)) dX0_drawn_19 (by decide) ?_
  refine g_iremC dX0_drawn_22 (by decide) ?_
  refine g_iast dX0_drawn_23 h (fun m4 h => ?_)
  refine g_iload_n dX0_drawn_24 0 rfl ?_
  refine g_iret dX0_drawn_25 hxt ?_
  have e := Option.some.inj h
  exact Kret _ _ e
/-! QuiverKin.writes -/
def f_X0_writes (g : zGd) (m : zMm) (a0 : Option Nat) (a1 : Int32) (a2 : Int32) (a3 : Int32) : Option (zMm) :=
(zald 101 g m a0 (15 : Int32)).bind fun v1 =>
((if v1 = (25 : Int32) then ((zcpi g m a0 (20 : Int32) a0 (16 : Int32) (96 : Int32)).bind fun m4 =>
(zald 101 g m4 a0 (15 : Int32)).bind fun v5 =>
(zast 101 g m4 a0 (15 : Int32) (v5 - (1 : Int32))).bind fun m6 =>
some (m6))
else (some (m)) : Option (zMm))).bind fun m3 =>
(zald 101 g m3 a0 (15 : Int32)).bind fun v7 =>
zlt ((16 : Int32) + ((4 : Int32) * v7)) fun v8 =>
(zald 101 g m3 a0 (0 : Int32)).bind fun v9 =>
(zast 101 g m3 a0 v8 v9).bind fun m10 =>
(zast 101 g m10 a0 (v8 + (1 : Int32)) a1).bind fun m11 =>
(zast 101 g m11 a0 (v8 + (2 : Int32)) a2).bind fun m12 =>
(zast 101 g m12 a0 (v8 + (3 : Int32)) a3).bind fun m13 =>
(zald 101 g m13 a0 (15 : Int32)).bind fun v14 =>
(zast 101 g m13 a0 (15 : Int32) (v14 + (1 : Int32))).bind fun m15 =>
some (m15)
theorem hy_X0_writes : zHy yX0_writes 4 := ⟨by decide, by decide, by decide +kernel⟩
set_option maxHeartbeats 4000000 in
theorem ok_X0_writes (l : Launch) (g : zGd) (m : zMm) (a0 : Option Nat) (a1 : Int32) (a2 : Int32) (a3 : Int32) (m0 : zMm) (h : f_X0_writes g m a0 a1 a2 a3 = some m0) : zCT l yX0_writes cX0_writes 5 none 1 40 g m [va_rf a0, .int a1, .int a2, .int a3] none g m0 := by
  refine zCT.of (own := "QuiverKin") (mn := "writes") (by decide +kernel) rfl rfl (zla_r (zla_i (zla_i (zla_i zla_0)))) (zls_r (zls_i (zls_i (zls_i zls_0)))) (by decide) (fun X hxl hxg hxf hxt hxr hxn => ?_)
  have Kret : ∀ (y0 : zMm), y0 = m0 → zRe X g y0 none := by
    intro y0 e; cases e; exact ⟨hxf, hxr, hxn⟩
  subst hxl
  show zG X cX0_writes 5 "QuiverKin" "writes" 1 40 0 [(0, va_rf a0), (1, .int a1), (2, .int a2), (3, .int a3)] [] g m
  unfold f_X0_writes at h
  refine g_aload_n dX0_writes_0 0 rfl ?_
  refine g_bipush (v := (15 : Int32)) dX0_writes_1 (by decide) ?_
  refine g_iald dX0_writes_3 h (fun v1 h => ?_)
  refine g_bipush (v := (25 : Int32)) dX0_writes_4 (by decide) ?_
  obtain ⟨o2, h1, h2⟩ := zB_e h
  have K2 : ∀ (m3 : zMm), o2 = m3 → zG X cX0_writes 5 "QuiverKin" "writes" 1 40 28 [(0, va_rf a0), (1, .int a1), (2, .int a2), (3, .int a3)] [] g m3 := by
    intro m3 e
    rw [e] at h2
    have h := h2
    refine g_bipush (v := (16 : Int32)) dX0_writes_28 (by decide) ?_
    refine g_iconst (v := (4 : Int32)) dX0_writes_30 (by decide) ?_
    refine g_aload_n dX0_writes_31 0 rfl ?_
    refine g_bipush (v := (15 : Int32)) dX0_writes_32 (by decide) ?_
    refine g_iald dX0_writes_34 h (fun v7 h => ?_)
    refine g_imul dX0_writes_35 ?_
    refine g_iadd dX0_writes_36 ?_
    refine g_leti h (fun v8 h => ?_)
    refine g_istore [(4, .int v8), (0, va_rf a0), (1, .int a1), (2, .int a2), (3, .int a3)] dX0_writes_37 (by decide) (zf_r (zf_i (zf_i (zf_i zf_0)))) rfl ?_
    refine g_aload_n dX0_writes_39 1 rfl ?_
    refine g_iload dX0_writes_40 0 rfl ?_
    refine g_aload_n dX0_writes_42 1 rfl ?_
    refine g_iconst (v := (0 : Int32)) dX0_writes_43 (by decide) ?_
    refine g_iald dX0_writes_44 h (fun v9 h => ?_)
    refine g_iast dX0_writes_45 h (fun m10 h => ?_)
    refine g_aload_n dX0_writes_46 1 rfl ?_
    refine g_iload dX0_writes_47 0 rfl ?_
    refine g_iconst (v := (1 : Int32)) dX0_writes_49 (by decide) ?_
    refine g_iadd dX0_writes_50 ?_
    refine g_iload_n dX0_writes_51 2 rfl ?_
    refine g_iast dX0_writes_52 h (fun m11 h => ?_)
    refine g_aload_n dX0_writes_53 1 rfl ?_
    refine g_iload dX0_writes_54 0 rfl ?_
    refine g_iconst (v := (2 : Int32)) dX0_writes_56 (by decide) ?_
    refine g_iadd dX0_writes_57 ?_
    refine g_iload_n dX0_writes_58 3 rfl ?_
    refine g_iast dX0_writes_59 h (fun m12 h => ?_)
    refine g_aload_n dX0_writes_60 1 rfl ?_
    refine g_iload dX0_writes_61 0 rfl ?_
    refine g_iconst (v := (3 : Int32)) dX0_writes_63 (by decide) ?_
    refine g_iadd dX0_writes_64 ?_
    refine g_iload_n dX0_writes_65 4 rfl ?_
    refine g_iast dX0_writes_66 h (fun m13 h => ?_)
    refine g_aload_n dX0_writes_67 1 rfl ?_
    refine g_bipush (v := (15 : Int32)) dX0_writes_68 (by decide) ?_
    refine g_dup2 dX0_writes_70 rfl (zcat_r _) ?_
    refine g_iald dX0_writes_71 h (fun v14 h => ?_)
    refine g_iconst (v := (1 : Int32)) dX0_writes_72 (by decide) ?_
    refine g_iadd dX0_writes_73 ?_
    refine g_iast dX0_writes_74 h (fun m15 h => ?_)
    refine g_vret dX0_writes_75 hxt ?_
    have e := Option.some.inj h
    exact Kret _ e
  have h := h1
  refine g_icmp_ne 28 dX0_writes_6 (by decide) (fun c => ?_) (fun c => ?_)
  · have h := zite_n h c
    refine zG.sub [0, 1, 2, 3] rfl ?_
    have e := Option.some.inj h
    exact K2 _ e.symm
  · have h := zite_p h c
    refine g_aload_n dX0_writes_9 0 rfl ?_
    refine g_bipush (v := (20 : Int32)) dX0_writes_10 (by decide) ?_
    refine g_aload_n dX0_writes_12 0 rfl ?_
    refine g_bipush (v := (16 : Int32)) dX0_writes_13 (by decide) ?_
    refine g_bipush (v := (96 : Int32)) dX0_writes_15 (by decide) ?_
    refine g_cpyi q1090 q235 q234 q125 zc_0 (by decide) (by decide) dX0_writes_17 h (fun m4 h => ?_)
    refine g_aload_n dX0_writes_20 0 rfl ?_
    refine g_bipush (v := (15 : Int32)) dX0_writes_21 (by decide) ?_
    refine g_dup2 dX0_writes_23 rfl (zcat_r _) ?_
    refine g_iald dX0_writes_24 h (fun v5 h => ?_)
    refine g_iconst (v := (1 : Int32)) dX0_writes_25 (by decide) ?_
    refine g_isub dX0_writes_26 ?_
    refine g_iast dX0_writes_27 h (fun m6 h => ?_)
    refine zG.sub [0, 1, 2, 3] rfl ?_
    have e := Option.some.inj h
    exact K2 _ e.symm
/-! QuiverKin.looses -/
def b_X0_looses_27 (g : zGd) (a0 : Option Nat) (a1 : Option Nat) (a2 : Int32) (m3 : zMm) : Int32 × Int32 → Option ((Int32 × Int32) ⊕ (Int32 × Int32)) := fun (v11, v12) =>
(zrc g 0 a0 (f_X0_whoAt g m3 a0 a1 v11)).bind fun v13 =>
if v13 = a2 then (some (.inl ((v11, v12))))
else ((zrc g 0 a0 (f_X0_whoAt g m3 a0 a1 v11)).bind fun v14 =>
(zald 101 g m3 a1 ((8 : Int32) + v14)).bind fun v15 =>
if v15 = 0 then ((zrc g 0 a0 (f_X0_whoAt g m3 a0 a1 v11)).bind fun v16 =>
zlt (v12 ||| (zshl (1 : Int32) v16)) fun v17 =>
zlt (v11 + (1 : Int32)) fun v18 =>
some (.inr (v18, v17)))
else (some (.inl ((v11, v12)))))
def f_X0_looses (g : zGd) (m : zMm) (a0 : Option Nat) (a1 : Option Nat) (a2 : Int32) : Option (zMm) :=
zlt ((8 : Int32) + a2) fun v1 =>
(zald 101 g m a1 v1).bind fun v2 =>
(zast 101 g m a1 v1 (v2 / (2 : Int32))).bind fun m3 =>
(zrc g 0 a0 (f_X0_seatOf g m3 a0 a1 a2)).bind fun v4 =>
(zrc g 0 a0 (f_X0_many g m3 a0)).bind fun v5 =>
zlt (v4 + (v5 / (2 : Int32))) fun v6 =>
(zLoop (b_X0_looses_27 g a0 a1 a2 m3) zFuel (v6, (0 : Int32))).bind fun (v8, v9) =>
(zrc g 0 a0 (f_X0_whoAt g m3 a0 a1 v8)).bind fun v19 =>
((if v19 = a2 then (some ((-1 : Int32)))
else ((zrc g 0 a0 (f_X0_whoAt g m3 a0 a1 v8)).bind fun v22 =>
some (v22)) : Option (Int32))).bind fun v21 =>
((if v21 = (-1 : Int32) then (some (m3))
else ((f_X0_reaches g m3 a1 v21).bind fun m25 =>
some (m25)) : Option (zMm))).bind fun m24 =>
(f_X0_writes g m24 a1 a2 v9 v21).bind fun m26 =>
some (m26)
theorem hy_X0_looses : zHy yX0_looses 2 := ⟨by decide, by decide, by decide +kernel⟩
set_option maxHeartbeats 4000000 in
theorem ok_X0_looses (l : Launch) (g : zGd) (m : zMm) (a0 : Option Nat) (a1 : Option Nat) (a2 : Int32) (m0 : zMm) (h : f_X0_looses g m a0 a1 a2 = some m0) : zCT l yX0_looses cX0_looses 6 none 3 64 g m [va_rf a0, va_rf a1, .int a2] none g m0 := by
  refine zCT.of (own := "QuiverKin") (mn := "looses") (by decide +kernel) rfl rfl (zla_r (zla_r (zla_i zla_0))) (zls_r (zls_r (zls_i zls_0))) (by decide) (fun X hxl hxg hxf hxt hxr hxn => ?_)
  have Kret : ∀ (y0 : zMm), y0 = m0 → zRe X g y0 none := by
    intro y0 e; cases e; exact ⟨hxf, hxr, hxn⟩
  subst hxl
  show zG X cX0_looses 6 "QuiverKin" "looses" 3 64 0 [(0, va_rf a0), (1, va_rf a1), (2, .int a2)] [] g m
  unfold f_X0_looses at h
  refine g_aload_n dX0_looses_0 1 rfl ?_
  refine g_bipush (v := (8 : Int32)) dX0_looses_1 (by decide) ?_
  refine g_iload_n dX0_looses_3 2 rfl ?_
  refine g_iadd dX0_looses_4 ?_
  refine g_leti h (fun v1 h => ?_)
  refine g_dup2 dX0_looses_5 rfl (zcat_r _) ?_
  refine g_iald dX0_looses_6 h (fun v2 h => ?_)
  refine g_iconst (v := (2 : Int32)) dX0_looses_7 (by decide) ?_
  refine g_idivC dX0_looses_8 (by decide) ?_
  refine g_iast dX0_looses_9 h (fun m3 h => ?_)
  refine g_aload_n dX0_looses_10 0 rfl ?_
  refine g_aload_n dX0_looses_11 1 rfl ?_
  refine g_iload_n dX0_looses_12 2 rfl ?_
  refine g_cVRv (rv := fun x : Int32 => Value.int x) [va_rf a1, .int a2] (fun x0 e0 => ok_X0_seatOf (xl X) g m3 a0 a1 a2 x0 e0) zc0 (by decide) (lw_V q928 q930 qs28 q123 q931) rfl hy_X0_seatOf rfl ⟨by decide, by decide⟩ rfl zc_0 (by decide) dX0_looses_13 h (fun v4 h => ?_)
  refine g_aload_n dX0_looses_16 0 rfl ?_
  refine g_cVRv (rv := fun x : Int32 => Value.int x) [] (fun x0 e0 => ok_X0_many (xl X) g m3 a0 x0 e0) zc0 (by decide) (lw_V q308 q310 qs0 q123 q311) rfl hy_X0_many rfl ⟨by decide, by decide⟩ rfl (zc_i zc_0) (by decide) dX0_looses_17 h (fun v5 h => ?_)
  refine g_iconst (v := (2 : Int32)) dX0_looses_20 (by decide) ?_
  refine g_idivC dX0_looses_21 (by decide) ?_
  refine g_iadd dX0_looses_22 ?_
  refine g_leti h (fun v6 h => ?_)
  refine g_istore_n [(3, .int v6), (0, va_rf a0), (1, va_rf a1), (2, .int a2)] dX0_looses_23 (by decide) (zf_r (zf_r (zf_i zf_0))) rfl ?_
  refine g_iconst (v := (0 : Int32)) dX0_looses_24 (by decide) ?_
  refine g_istore [(4, .int (0 : Int32)), (3, .int v6), (0, va_rf a0), (1, va_rf a1), (2, .int a2)] dX0_looses_25 (by decide) (zf_i (zf_r (zf_r (zf_i zf_0)))) rfl ?_
  obtain ⟨o7, h1, h2⟩ := zB_e h
  have K7 : ∀ (v8 : Int32) (v9 : Int32), o7 = (v8, v9) → zG X cX0_looses 6 "QuiverKin" "looses" 3 64 70 [(0, va_rf a0), (1, va_rf a1), (2, .int a2), (3, .int v8), (4, .int v9)] [] g m3 := by
    intro v8 v9 e
    rw [e] at h2
    have h := h2
    refine g_aload_n dX0_looses_70 0 rfl ?_
    refine g_aload_n dX0_looses_71 1 rfl ?_
    refine g_iload_n dX0_looses_72 3 rfl ?_
    refine g_cVRv (rv := fun x : Int32 => Value.int x) [va_rf a1, .int v8] (fun x0 e0 => ok_X0_whoAt (xl X) g m3 a0 a1 v8 x0 e0) zc0 (by decide) (lw_V q964 q966 qs34 q123 q967) rfl hy_X0_whoAt rfl ⟨by decide, by decide⟩ rfl zc_0 (by decide) dX0_looses_73 h (fun v19 h => ?_)
    refine g_iload_n dX0_looses_76 2 rfl ?_
    obtain ⟨o20, h1, h2⟩ := zB_e h
    have K20 : ∀ (v21 : Int32), o20 = v21 → zG X cX0_looses 6 "QuiverKin" "looses" 3 64 90 [(1, va_rf a1), (2, .int a2), (4, .int v9)] [.int v21] g m3 := by
      intro v21 e
      rw [e] at h2
      have h := h2
      refine g_istore [(5, .int v21), (1, va_rf a1), (2, .int a2), (4, .int v9)] dX0_looses_90 (by decide) (zf_r (zf_i (zf_i zf_0))) rfl ?_
      refine g_iload dX0_looses_92 0 rfl ?_
      refine g_iconst (v := (-1 : Int32)) dX0_looses_94 (by decide) ?_
      obtain ⟨o23, h1, h2⟩ := zB_e h
      have K23 : ∀ (m24 : zMm), o23 = m24 → zG X cX0_looses 6 "QuiverKin" "looses" 3 64 104 [(1, va_rf a1), (2, .int a2), (4, .int v9), (5, .int v21)] [] g m24 := by
        intro m24 e
        rw [e] at h2
        have h := h2
        refine g_aload_n dX0_looses_104 0 rfl ?_
        refine g_iload_n dX0_looses_105 1 rfl ?_
        refine g_iload dX0_looses_106 2 rfl ?_
        refine g_iload dX0_looses_108 3 rfl ?_
        refine g_cSMn [va_rf a1, .int a2, .int v9, .int v21] (fun m0 e0 => ok_X0_writes (xl X) g m24 a1 a2 v9 v21 m0 e0) (lw_S q1087 q1088 q123 q1089) hy_X0_writes rfl ⟨by decide, by decide⟩ rfl zc_0 (by decide) dX0_looses_110 h (fun m26 h => ?_)
        refine g_vret dX0_looses_113 hxt ?_
        have e := Option.some.inj h
        exact Kret _ e
      have h := h1
      refine g_icmp_eq 104 dX0_looses_95 (by decide) (fun c => ?_) (fun c => ?_)
      · have h := zite_p h c
        refine zG.sub [1, 2, 3, 0] rfl ?_
        have e := Option.some.inj h
        exact K23 _ e.symm
      · have h := zite_n h c
        refine g_aload_n dX0_looses_98 1 rfl ?_
        refine g_iload dX0_looses_99 0 rfl ?_
        refine g_cSMn [va_rf a1, .int v21] (fun m0 e0 => ok_X0_reaches (xl X) g m3 a1 v21 m0 e0) (lw_S q904 q905 q123 q906) hy_X0_reaches rfl ⟨by decide, by decide⟩ rfl zc_0 (by decide) dX0_looses_101 h (fun m25 h => ?_)
        refine zG.sub [1, 2, 3, 0] rfl ?_
        have e := Option.some.inj h
        exact K23 _ e.symm
    have h := h1
    refine g_icmp_ne 84 dX0_looses_77 (by decide) (fun c => ?_) (fun c => ?_)
    · have h := zite_n h c
      refine g_aload_n dX0_looses_84 0 rfl ?_
      refine g_aload_n dX0_looses_85 1 rfl ?_
      refine g_iload_n dX0_looses_86 3 rfl ?_
      refine g_cVRv (rv := fun x : Int32 => Value.int x) [va_rf a1, .int v8] (fun x0 e0 => ok_X0_whoAt (xl X) g m3 a0 a1 v8 x0 e0) zc0 (by decide) (lw_V q964 q966 qs34 q123 q967) rfl hy_X0_whoAt rfl ⟨by decide, by decide⟩ rfl zc_0 (by decide) dX0_looses_87 h (fun v22 h => ?_)
      refine zG.sub [1, 2, 4] rfl ?_
      have e := Option.some.inj h
      exact K20 _ e.symm
    · have h := zite_p h c
      refine g_iconst (v := (-1 : Int32)) dX0_looses_80 (by decide) ?_
      refine g_goto 90 dX0_looses_81 (by decide) ?_
      refine zG.sub [1, 2, 4] rfl ?_
      have e := Option.some.inj h
      exact K20 _ e.symm
  refine zG.sub [2, 3, 4, 1, 0] rfl ?_
  refine zLoop_ok (Φ := (fun (q : Int32 × Int32) => match q with | (v11, v12) => zG X cX0_looses 6 "QuiverKin" "looses" 3 64 27 [(0, va_rf a0), (1, va_rf a1), (2, .int a2), (3, .int v11), (4, .int v12)] [] g m3)) o7 ?_ zFuel _ h1
  rintro ⟨v11, v12⟩ x10 h hl10 hr10
  unfold b_X0_looses_27 at h
  have K10 : ∀ (v11 : Int32) (v12 : Int32), x10 = .inr (v11, v12) → zG X cX0_looses 6 "QuiverKin" "looses" 3 64 27 [(0, va_rf a0), (1, va_rf a1), (2, .int a2), (3, .int v11), (4, .int v12)] [] g m3 := by
    intro v11 v12 e
    exact hr10 _ e
  show zG X cX0_looses 6 "QuiverKin" "looses" 3 64 27 [(0, va_rf a0), (1, va_rf a1), (2, .int a2), (3, .int v11), (4, .int v12)] [] g m3
  refine g_aload_n dX0_looses_27 0 rfl ?_
  refine g_aload_n dX0_looses_28 1 rfl ?_
  refine g_iload_n dX0_looses_29 3 rfl ?_
  refine g_cVRv (rv := fun x : Int32 => Value.int x) [va_rf a1, .int v11] (fun x0 e0 => ok_X0_whoAt (xl X) g m3 a0 a1 v11 x0 e0) zc0 (by decide) (lw_V q964 q966 qs34 q123 q967) rfl hy_X0_whoAt rfl ⟨by decide, by decide⟩ rfl zc_0 (by decide) dX0_looses_30 h (fun v13 h => ?_)
  refine g_iload_n dX0_looses_33 2 rfl ?_
  refine g_icmp_eq 70 dX0_looses_34 (by decide) (fun c => ?_) (fun c => ?_)
  · have h := zite_p h c
    refine zG.sub [0, 1, 2, 3, 4] rfl ?_
    have e := Option.some.inj h
    have e := hl10 _ e.symm
    exact K7 _ _ e.symm
  · have h := zite_n h c
    refine g_aload_n dX0_looses_37 1 rfl ?_
    refine g_bipush (v := (8 : Int32)) dX0_looses_38 (by decide) ?_
    refine g_aload_n dX0_looses_40 0 rfl ?_
    refine g_aload_n dX0_looses_41 1 rfl ?_
    refine g_iload_n dX0_looses_42 3 rfl ?_
    refine g_cVRv (rv := fun x : Int32 => Value.int x) [va_rf a1, .int v11] (fun x0 e0 => ok_X0_whoAt (xl X) g m3 a0 a1 v11 x0 e0) zc0 (by decide) (lw_V q964 q966 qs34 q123 q967) rfl hy_X0_whoAt rfl ⟨by decide, by decide⟩ rfl (zc_i (zc_r zc_0)) (by decide) dX0_looses_43 h (fun v14 h => ?_)
    refine g_iadd dX0_looses_46 ?_
    refine g_iald dX0_looses_47 h (fun v15 h => ?_)
    refine g_if_ne 70 dX0_looses_48 (by decide) (fun c => ?_) (fun c => ?_)
    · have h := zite_n h c
      refine zG.sub [0, 1, 2, 3, 4] rfl ?_
      have e := Option.some.inj h
      have e := hl10 _ e.symm
      exact K7 _ _ e.symm
    · have h := zite_p h c
      refine g_iload dX0_looses_51 4 rfl ?_
      refine g_iconst (v := (1 : Int32)) dX0_looses_53 (by decide) ?_
      refine g_aload_n dX0_looses_54 0 rfl ?_
      refine g_aload_n dX0_looses_55 1 rfl ?_
      refine g_iload_n dX0_looses_56 3 rfl ?_
      refine g_cVRv (rv := fun x : Int32 => Value.int x) [va_rf a1, .int v11] (fun x0 e0 => ok_X0_whoAt (xl X) g m3 a0 a1 v11 x0 e0) zc0 (by decide) (lw_V q964 q966 qs34 q123 q967) rfl hy_X0_whoAt rfl ⟨by decide, by decide⟩ rfl (zc_i (zc_i zc_0)) (by decide) dX0_looses_57 h (fun v16 h => ?_)
      refine g_ishl dX0_looses_60 ?_
      refine g_ior dX0_looses_61 ?_
      refine g_leti h (fun v17 h => ?_)
      refine g_istore [(4, .int v17), (0, va_rf a0), (1, va_rf a1), (2, .int a2), (3, .int v11)] dX0_looses_62 (by decide) (zf_r (zf_r (zf_i (zf_i (zf_i zf_0))))) rfl ?_
      refine g_iinc (v := (1 : Int32)) [(4, .int v17), (0, va_rf a0), (1, va_rf a1), (2, .int a2)] dX0_looses_64 4 rfl (by decide) (by decide) (zf_i (zf_r (zf_r (zf_i (zf_i zf_0))))) rfl h (fun v18 h => ?_)
      refine g_goto 27 dX0_looses_67 (by decide) ?_
      refine zG.sub [2, 3, 4, 0, 1] rfl ?_
      have e := Option.some.inj h
      exact K10 _ _ e.symm
/-! QuiverKin.reachesBy -/
def f_X0_reachesBy (g : zGd) (m : zMm) (a0 : Option Nat) (a1 : Option Nat) (a2 : Option Nat) (a3 : Int32) : Option (Int32 × zMm) :=
(zrc g 0 a0 (f_X0_namesOf g m a0 a2 a3)).bind fun m1 =>
(zgr g m1 0 6 a0).bind fun r2 =>
(zgr g m1 0 6 a0).bind fun r3 =>
(zald 101 g m1 r3 (4 : Int32)).bind fun v4 =>
(zrc g 0 a0 (f_X0_whoAt g m1 a0 a2 (v4 + (1 : Int32)))).bind fun v5 =>
(zald 101 g m1 a2 ((8 : Int32) + v5)).bind fun v6 =>
(zgr g m1 0 6 a0).bind fun r7 =>
(zald 101 g m1 r7 (4 : Int32)).bind fun v8 =>
(zrc g 0 a0 (f_X0_many g m1 a0)).bind fun v9 =>
(zrc g 0 a0 (f_X0_whoAt g m1 a0 a2 ((v8 + v9) - (1 : Int32)))).bind fun v10 =>
(zald 101 g m1 a2 ((8 : Int32) + v10)).bind fun v11 =>
(zast 101 g m1 r2 (5 : Int32) (v6 + v11)).bind fun m12 =>
(zgr g m12 4 0 a1).bind fun r13 =>
(zaldr 107 g m12 r13 (0 : Int32)).bind fun r14 =>
((if r14 = none then ((zgr g m12 0 6 a0).bind fun r21 =>
(zald 101 g m12 r21 (2 : Int32)).bind fun v22 =>
some ((v22.toInt64)))
else ((zgr g m12 4 0 a1).bind fun r17 =>
(zaldr 107 g m12 r17 (0 : Int32)).bind fun r18 =>
(zgr g m12 0 6 a0).bind fun r19 =>
((r_E 70 g m12).1 r18 r19).bind fun w20 =>
some (w20)) : Option (Int64))).bind fun w16 =>
(f_X0_held w16 (0 : Int32) (10 : Int32)).bind fun v23 =>
some ((v23, m12))
theorem hy_X0_reachesBy : zHy yX0_reachesBy 3 := ⟨by decide, by decide, by decide +kernel⟩
set_option maxHeartbeats 4000000 in
theorem ok_X0_reachesBy (l : Launch) (g : zGd) (m : zMm) (a0 : Option Nat) (a1 : Option Nat) (a2 : Option Nat) (a3 : Int32) (z0 : Int32) (m0 : zMm) (h : f_X0_reachesBy g m a0 a1 a2 a3 = some (z0, m0)) : zCT l yX0_reachesBy cX0_reachesBy 4 (some .int) 281 5928 g m [va_rf a0, va_rf a1, va_rf a2, .int a3] (some (.int z0)) g m0 := by
  refine zCT.of (own := "QuiverKin") (mn := "reachesBy") (by decide +kernel) rfl rfl (zla_r (zla_r (zla_r (zla_i zla_0)))) (zls_r (zls_r (zls_r (zls_i zls_0)))) (by decide) (fun X hxl hxg hxf hxt hxr hxn => ?_)
  have Kret : ∀ (y0 : Int32) (y1 : zMm), (y0, y1) = (z0, m0) → zRe X g y1 (some (.int y0)) := by
    intro y0 y1 e; cases e; exact ⟨hxf, hxr, hxn⟩
  subst hxl
  show zG X cX0_reachesBy 4 "QuiverKin" "reachesBy" 281 5928 0 [(0, va_rf a0), (1, va_rf a1), (2, va_rf a2), (3, .int a3)] [] g m
  unfold f_X0_reachesBy at h
  refine g_aload_n dX0_reachesBy_0 0 rfl ?_
  refine g_aload_n dX0_reachesBy_1 2 rfl ?_
  refine g_iload_n dX0_reachesBy_2 3 rfl ?_
  refine g_cVMn [va_rf a2, .int a3] (fun m0 e0 => ok_X0_namesOf (xl X) g m a0 a2 a3 m0 e0) zc0 (by decide) (lw_V q956 q958 qs32 q123 q959) rfl hy_X0_namesOf rfl ⟨by decide, by decide⟩ rfl zc_0 (by decide) dX0_reachesBy_3 h (fun m1 h => ?_)
  refine g_aload_n dX0_reachesBy_6 0 rfl ?_
  refine gf_r zfd_0_6 q245  (fun _ h9 => h9) dX0_reachesBy_7 h (fun r2 h => ?_)
  refine g_iconst (v := (5 : Int32)) dX0_reachesBy_10 (by decide) ?_
  refine g_aload_n dX0_reachesBy_11 2 rfl ?_
  refine g_bipush (v := (8 : Int32)) dX0_reachesBy_12 (by decide) ?_
  refine g_aload_n dX0_reachesBy_14 0 rfl ?_
  refine g_aload_n dX0_reachesBy_15 2 rfl ?_
  refine g_aload_n dX0_reachesBy_16 0 rfl ?_
  refine gf_r zfd_0_6 q245  (fun _ h9 => h9) dX0_reachesBy_17 h (fun r3 h => ?_)
  refine g_iconst (v := (4 : Int32)) dX0_reachesBy_20 (by decide) ?_
  refine g_iald dX0_reachesBy_21 h (fun v4 h => ?_)
  refine g_iconst (v := (1 : Int32)) dX0_reachesBy_22 (by decide) ?_
  refine g_iadd dX0_reachesBy_23 ?_
  refine g_cVRv (rv := fun x : Int32 => Value.int x) [va_rf a2, .int (v4 + (1 : Int32))] (fun x0 e0 => ok_X0_whoAt (xl X) g m1 a0 a2 (v4 + (1 : Int32)) x0 e0) zc0 (by decide) (lw_V q964 q966 qs34 q123 q967) rfl hy_X0_whoAt rfl ⟨by decide, by decide⟩ rfl (zc_i (zc_r (zc_i (zc_r zc_0)))) (by decide) dX0_reachesBy_24 h (fun v5 h => ?_)
  refine g_iadd dX0_reachesBy_27 ?_
  refine g_iald dX0_reachesBy_28 h (fun v6 h => ?_)
  refine g_aload_n dX0_reachesBy_29 2 rfl ?_
  refine g_bipush (v := (8 : Int32)) dX0_reachesBy_30 (by decide) ?_
  refine g_aload_n dX0_reachesBy_32 0 rfl ?_
  refine g_aload_n dX0_reachesBy_33 2 rfl ?_
  refine g_aload_n dX0_reachesBy_34 0 rfl ?_
  refine gf_r zfd_0_6 q245  (fun _ h9 => h9) dX0_reachesBy_35 h (fun r7 h => ?_)
  refine g_iconst (v := (4 : Int32)) dX0_reachesBy_38 (by decide) ?_
  refine g_iald dX0_reachesBy_39 h (fun v8 h => ?_)
  refine g_aload_n dX0_reachesBy_40 0 rfl ?_
  refine g_cVRv (rv := fun x : Int32 => Value.int x) [] (fun x0 e0 => ok_X0_many (xl X) g m1 a0 x0 e0) zc0 (by decide) (lw_V q308 q310 qs0 q123 q311) rfl hy_X0_many rfl ⟨by decide, by decide⟩ rfl (zc_i (zc_r (zc_r (zc_i (zc_r (zc_i (zc_i (zc_r zc_0)))))))) (by decide) dX0_reachesBy_41 h (fun v9 h => ?_)
  refine g_iadd dX0_reachesBy_44 ?_
  refine g_iconst (v := (1 : Int32)) dX0_reachesBy_45 (by decide) ?_
  refine g_isub dX0_reachesBy_46 ?_
  refine g_cVRv (rv := fun x : Int32 => Value.int x) [va_rf a2, .int ((v8 + v9) - (1 : Int32))] (fun x0 e0 => ok_X0_whoAt (xl X) g m1 a0 a2 ((v8 + v9) - (1 : Int32)) x0 e0) zc0 (by decide) (lw_V q964 q966 qs34 q123 q967) rfl hy_X0_whoAt rfl ⟨by decide, by decide⟩ rfl (zc_i (zc_r (zc_i (zc_i (zc_r zc_0))))) (by decide) dX0_reachesBy_47 h (fun v10 h => ?_)
  refine g_iadd dX0_reachesBy_50 ?_
  refine g_iald dX0_reachesBy_51 h (fun v11 h => ?_)
  refine g_iadd dX0_reachesBy_52 ?_
  refine g_iast dX0_reachesBy_53 h (fun m12 h => ?_)
  refine g_aload_n dX0_reachesBy_54 1 rfl ?_
  refine gf_rN zfd_4_0 q407  (fun _ h9 => h9) dX0_reachesBy_55 h (fun r13 h => ?_)
  refine g_iconst (v := (0 : Int32)) dX0_reachesBy_58 (by decide) ?_
  refine g_aald 6 rfl rfl (by decide)  dX0_reachesBy_59 h (fun r14 h => ?_)
  obtain ⟨o15, h1, h2⟩ := zB_e h
  have K15 : ∀ (w16 : Int64), o15 = w16 → zG X cX0_reachesBy 4 "QuiverKin" "reachesBy" 281 5928 88 [] [.long w16] g m12 := by
    intro w16 e
    rw [e] at h2
    have h := h2
    refine g_iconst (v := (0 : Int32)) dX0_reachesBy_88 (by decide) ?_
    refine g_bipush (v := (10 : Int32)) dX0_reachesBy_89 (by decide) ?_
    refine g_cSRv (rv := fun x : Int32 => Value.int x) [.long w16, .int (0 : Int32), .int (10 : Int32)] (fun x0 e0 => ok_X0_held (xl X) g m12 w16 (0 : Int32) (10 : Int32) x0 e0) (lw_S q1073 q1074 q123 q1075) hy_X0_held rfl ⟨by decide, by decide⟩ rfl zc_0 (by decide) dX0_reachesBy_91 h (fun v23 h => ?_)
    refine g_iret dX0_reachesBy_94 hxt ?_
    have e := Option.some.inj h
    exact Kret _ _ e
  have h := h1
  refine g_ifnonnull 73 dX0_reachesBy_60 (by decide) (fun c => ?_) (fun c => ?_)
  · have h := zite_n h c
    refine g_aload_n dX0_reachesBy_73 1 rfl ?_
    refine gf_rN zfd_4_0 q407  (fun _ h9 => h9) dX0_reachesBy_74 h (fun r17 h => ?_)
    refine g_iconst (v := (0 : Int32)) dX0_reachesBy_77 (by decide) ?_
    refine g_aald 6 rfl rfl (by decide)  dX0_reachesBy_78 h (fun r18 h => ?_)
    refine g_aload_n dX0_reachesBy_79 0 rfl ?_
    refine gf_r zfd_0_6 q245  (fun _ h9 => h9) dX0_reachesBy_80 h (fun r19 h => ?_)
    refine g_cFS (okr_E (xl X) g m12 70).1 q969 ⟨by decide, by decide⟩ zc_0 (by decide) dX0_reachesBy_83 h (fun w20 h => ?_)
    refine zG.sub [] rfl ?_
    have e := Option.some.inj h
    exact K15 _ e.symm
  · have h := zite_p h c
    refine g_aload_n dX0_reachesBy_63 0 rfl ?_
    refine gf_r zfd_0_6 q245  (fun _ h9 => h9) dX0_reachesBy_64 h (fun r21 h => ?_)
    refine g_iconst (v := (2 : Int32)) dX0_reachesBy_67 (by decide) ?_
    refine g_iald dX0_reachesBy_68 h (fun v22 h => ?_)
    refine g_i2l dX0_reachesBy_69 ?_
    refine g_goto 88 dX0_reachesBy_70 (by decide) ?_
    refine zG.sub [] rfl ?_
    have e := Option.some.inj h
    exact K15 _ e.symm
/-! QuiverKin.passes -/
def b_X0_passes_2 (g : zGd) (a0 : Option Nat) (a1 : Option Nat) : Int32 × zMm → Option ((zMm) ⊕ (Int32 × zMm)) := fun (v4, m5) =>
(zrc g 0 a0 (f_X0_many g m5 a0)).bind fun v6 =>
if v6 ≤ v4 then (some (.inl m5))
else ((zald 101 g m5 a1 ((2 : Int32) + v4)).bind fun v7 =>
(zald 101 g m5 a1 (14 : Int32)).bind fun v8 =>
(f_X0_has v8 v7).bind fun v9 =>
if v9 = 0 then ((f_X0_drawn g m5 a1 (10 : Int32)).bind fun (v11, m12) =>
(zrc g 0 a0 (f_X0_rules g m12 a0)).bind fun r13 =>
(zrc g 0 a0 (f_X0_reachesBy g m12 a0 r13 a1 v7)).bind fun (v14, m15) =>
if v14 ≤ v11 then (zlt (v4 + (1 : Int32)) fun v16 =>
some (.inr (v16, m15)))
else ((f_X0_reaches g m15 a1 v7).bind fun m17 =>
zlt (v4 + (1 : Int32)) fun v18 =>
some (.inr (v18, m17))))
else (zlt (v4 + (1 : Int32)) fun v10 =>
some (.inr (v10, m5))))
def b_X0_passes_61 (g : zGd) (a0 : Option Nat) (a1 : Option Nat) : Int32 × Int32 × zMm → Option ((Int32 × zMm) ⊕ (Int32 × Int32 × zMm)) := fun (v23, v24, m25) =>
(zrc g 0 a0 (f_X0_many g m25 a0)).bind fun v26 =>
if v26 ≤ v24 then (some (.inl ((v23, m25))))
else ((zald 101 g m25 a1 ((2 : Int32) + v24)).bind fun v27 =>
(zald 101 g m25 a1 (14 : Int32)).bind fun v28 =>
(f_X0_has v28 v27).bind fun v29 =>
if v29 = 0 then ((zald 101 g m25 a1 ((8 : Int32) + v27)).bind fun v31 =>
(zrc g 0 a0 (f_X0_bearsOf g m25 a0 a1 v27)).bind fun (v32, m33) =>
if v32 < v31 then ((zrc g 0 a0 (f_X0_looses g m33 a0 a1 v27)).bind fun m34 =>
zlt (v23 + (1 : Int32)) fun v35 =>
zlt (v24 + (1 : Int32)) fun v36 =>
some (.inr (v35, v36, m34)))
else (zlt (v24 + (1 : Int32)) fun v37 =>
some (.inr (v23, v37, m33))))
else (zlt (v24 + (1 : Int32)) fun v30 =>
some (.inr (v23, v30, m25))))
def f_X0_passes (g : zGd) (m : zMm) (a0 : Option Nat) (a1 : Option Nat) : Option (Int32 × zMm) :=
(zLoop (b_X0_passes_2 g a0 a1) zFuel ((0 : Int32), m)).bind fun m2 =>
(zLoop (b_X0_passes_61 g a0 a1) zFuel ((0 : Int32), (0 : Int32), m2)).bind fun (v20, m21) =>
(zald 101 g m21 a1 (0 : Int32)).bind fun v38 =>
(zast 101 g m21 a1 (0 : Int32) (v38 + (1 : Int32))).bind fun m39 =>
some ((v20, m39))
theorem hy_X0_passes : zHy yX0_passes 1 := ⟨by decide, by decide, by decide +kernel⟩
set_option maxHeartbeats 4000000 in
theorem ok_X0_passes (l : Launch) (g : zGd) (m : zMm) (a0 : Option Nat) (a1 : Option Nat) (z0 : Int32) (m0 : zMm) (h : f_X0_passes g m a0 a1 = some (z0, m0)) : zCT l yX0_passes cX0_passes 5 (some .int) 282 5951 g m [va_rf a0, va_rf a1] (some (.int z0)) g m0 := by
  refine zCT.of (own := "QuiverKin") (mn := "passes") (by decide +kernel) rfl rfl (zla_r (zla_r zla_0)) (zls_r (zls_r zls_0)) (by decide) (fun X hxl hxg hxf hxt hxr hxn => ?_)
  have Kret : ∀ (y0 : Int32) (y1 : zMm), (y0, y1) = (z0, m0) → zRe X g y1 (some (.int y0)) := by
    intro y0 y1 e; cases e; exact ⟨hxf, hxr, hxn⟩
  subst hxl
  show zG X cX0_passes 5 "QuiverKin" "passes" 282 5951 0 [(0, va_rf a0), (1, va_rf a1)] [] g m
  unfold f_X0_passes at h
  refine g_iconst (v := (0 : Int32)) dX0_passes_0 (by decide) ?_
  refine g_istore_n [(2, .int (0 : Int32)), (0, va_rf a0), (1, va_rf a1)] dX0_passes_1 (by decide) (zf_r (zf_r zf_0)) rfl ?_
  obtain ⟨o1, h1, h2⟩ := zB_e h
  have K1 : ∀ (m2 : zMm), o1 = m2 → zG X cX0_passes 5 "QuiverKin" "passes" 282 5951 57 [(0, va_rf a0), (1, va_rf a1)] [] g m2 := by
    intro m2 e
    rw [e] at h2
    have h := h2
    refine g_iconst (v := (0 : Int32)) dX0_passes_57 (by decide) ?_
    refine g_istore_n [(2, .int (0 : Int32)), (0, va_rf a0), (1, va_rf a1)] dX0_passes_58 (by decide) (zf_r (zf_r zf_0)) rfl ?_
    refine g_iconst (v := (0 : Int32)) dX0_passes_59 (by decide) ?_
    refine g_istore_n [(3, .int (0 : Int32)), (2, .int (0 : Int32)), (0, va_rf a0), (1, va_rf a1)] dX0_passes_60 (by decide) (zf_i (zf_r (zf_r zf_0))) rfl ?_
    obtain ⟨o19, h1, h2⟩ := zB_e h
    have K19 : ∀ (v20 : Int32) (m21 : zMm), o19 = (v20, m21) → zG X cX0_passes 5 "QuiverKin" "passes" 282 5951 124 [(1, va_rf a1), (2, .int v20)] [] g m21 := by
      intro v20 m21 e
      rw [e] at h2
      have h := h2
      refine g_aload_n dX0_passes_124 0 rfl ?_
      refine g_iconst (v := (0 : Int32)) dX0_passes_125 (by decide) ?_
      refine g_dup2 dX0_passes_126 rfl (zcat_r _) ?_
      refine g_iald dX0_passes_127 h (fun v38 h => ?_)
      refine g_iconst (v := (1 : Int32)) dX0_passes_128 (by decide) ?_
      refine g_iadd dX0_passes_129 ?_
      refine g_iast dX0_passes_130 h (fun m39 h => ?_)
      refine g_iload_n dX0_passes_131 1 rfl ?_
      refine g_iret dX0_passes_132 hxt ?_
      have e := Option.some.inj h
      exact Kret _ _ e
    refine zG.sub [2, 3, 1, 0] rfl ?_
    refine zLoop_ok (Φ := (fun (q : Int32 × Int32 × zMm) => match q with | (v23, v24, m25) => zG X cX0_passes 5 "QuiverKin" "passes" 282 5951 61 [(0, va_rf a0), (1, va_rf a1), (2, .int v23), (3, .int v24)] [] g m25)) o19 ?_ zFuel _ h1
    rintro ⟨v23, v24, m25⟩ x22 h hl22 hr22
    unfold b_X0_passes_61 at h
    have K22 : ∀ (v23 : Int32) (v24 : Int32) (m25 : zMm), x22 = .inr (v23, v24, m25) → zG X cX0_passes 5 "QuiverKin" "passes" 282 5951 61 [(0, va_rf a0), (1, va_rf a1), (2, .int v23), (3, .int v24)] [] g m25 := by
      intro v23 v24 m25 e
      exact hr22 _ e
    show zG X cX0_passes 5 "QuiverKin" "passes" 282 5951 61 [(0, va_rf a0), (1, va_rf a1), (2, .int v23), (3, .int v24)] [] g m25
    refine g_iload_n dX0_passes_61 3 rfl ?_
    refine g_aload_n dX0_passes_62 0 rfl ?_
    refine g_cVRv (rv := fun x : Int32 => Value.int x) [] (fun x0 e0 => ok_X0_many (xl X) g m25 a0 x0 e0) zc0 (by decide) (lw_V q308 q310 qs0 q123 q311) rfl hy_X0_many rfl ⟨by decide, by decide⟩ rfl (zc_i zc_0) (by decide) dX0_passes_63 h (fun v26 h => ?_)
    refine g_icmp_ge 124 dX0_passes_66 (by decide) (fun c => ?_) (fun c => ?_)
    · have h := zite_p h c
      refine zG.sub [1, 2] rfl ?_
      have e := Option.some.inj h
      have e := hl22 _ e.symm
      exact K19 _ _ e.symm
    · have h := zite_n h c
      refine g_aload_n dX0_passes_69 1 rfl ?_
      refine g_iconst (v := (2 : Int32)) dX0_passes_70 (by decide) ?_
      refine g_iload_n dX0_passes_71 3 rfl ?_
      refine g_iadd dX0_passes_72 ?_
      refine g_iald dX0_passes_73 h (fun v27 h => ?_)
      refine g_istore [(4, .int v27), (0, va_rf a0), (1, va_rf a1), (2, .int v23), (3, .int v24)] dX0_passes_74 (by decide) (zf_r (zf_r (zf_i (zf_i zf_0)))) rfl ?_
      refine g_aload_n dX0_passes_76 2 rfl ?_
      refine g_bipush (v := (14 : Int32)) dX0_passes_77 (by decide) ?_
      refine g_iald dX0_passes_79 h (fun v28 h => ?_)
      refine g_iload dX0_passes_80 0 rfl ?_
      refine g_cSRv (rv := fun x : Int32 => Value.int x) [.int v28, .int v27] (fun x0 e0 => ok_X0_has (xl X) g m25 v28 v27 x0 e0) (lw_S q897 q898 q123 q899) hy_X0_has rfl ⟨by decide, by decide⟩ rfl zc_0 (by decide) dX0_passes_82 h (fun v29 h => ?_)
      refine g_if_ne 118 dX0_passes_85 (by decide) (fun c => ?_) (fun c => ?_)
      · have h := zite_n h c
        refine g_iinc (v := (1 : Int32)) [(4, .int v27), (0, va_rf a0), (1, va_rf a1), (2, .int v23)] dX0_passes_118 4 rfl (by decide) (by decide) (zf_i (zf_r (zf_r (zf_i (zf_i zf_0))))) rfl h (fun v30 h => ?_)
        refine g_goto 61 dX0_passes_121 (by decide) ?_
        refine zG.sub [2, 3, 4, 0] rfl ?_
        have e := Option.some.inj h
        exact K22 _ _ _ e.symm
      · have h := zite_p h c
        refine g_aload_n dX0_passes_88 2 rfl ?_
        refine g_bipush (v := (8 : Int32)) dX0_passes_89 (by decide) ?_
        refine g_iload dX0_passes_91 0 rfl ?_
        refine g_iadd dX0_passes_93 ?_
        refine g_iald dX0_passes_94 h (fun v31 h => ?_)
        refine g_aload_n dX0_passes_95 1 rfl ?_
        refine g_aload_n dX0_passes_96 2 rfl ?_
        refine g_iload dX0_passes_97 0 rfl ?_
        refine g_cVMv (rv := fun x : Int32 => Value.int x) [va_rf a1, .int v27] (fun x0 m0 e0 => ok_X0_bearsOf (xl X) g m25 a0 a1 v27 x0 m0 e0) zc0 (by decide) (lw_V q1078 q1080 qs35 q123 q1081) rfl hy_X0_bearsOf rfl ⟨by decide, by decide⟩ rfl (zc_i zc_0) (by decide) dX0_passes_99 h (fun v32 m33 h => ?_)
        refine g_icmp_gt 108 dX0_passes_102 (by decide) (fun c => ?_) (fun c => ?_)
        · have h := zite_p h c
          refine g_aload_n dX0_passes_108 1 rfl ?_
          refine g_aload_n dX0_passes_109 2 rfl ?_
          refine g_iload dX0_passes_110 0 rfl ?_
          refine g_cVMn [va_rf a1, .int v27] (fun m0 e0 => ok_X0_looses (xl X) g m33 a0 a1 v27 m0 e0) zc0 (by decide) (lw_V q1083 q1085 qs36 q123 q1086) rfl hy_X0_looses rfl ⟨by decide, by decide⟩ rfl zc_0 (by decide) dX0_passes_112 h (fun m34 h => ?_)
          refine g_iinc (v := (1 : Int32)) [(4, .int v27), (0, va_rf a0), (1, va_rf a1), (3, .int v24)] dX0_passes_115 3 rfl (by decide) (by decide) (zf_i (zf_r (zf_r (zf_i (zf_i zf_0))))) rfl h (fun v35 h => ?_)
          refine g_iinc (v := (1 : Int32)) [(2, .int v35), (4, .int v27), (0, va_rf a0), (1, va_rf a1)] dX0_passes_118 4 rfl (by decide) (by decide) (zf_i (zf_i (zf_r (zf_r (zf_i zf_0))))) rfl h (fun v36 h => ?_)
          refine g_goto 61 dX0_passes_121 (by decide) ?_
          refine zG.sub [3, 4, 1, 0] rfl ?_
          have e := Option.some.inj h
          exact K22 _ _ _ e.symm
        · have h := zite_n h c
          refine g_goto 118 dX0_passes_105 (by decide) ?_
          refine g_iinc (v := (1 : Int32)) [(4, .int v27), (0, va_rf a0), (1, va_rf a1), (2, .int v23)] dX0_passes_118 4 rfl (by decide) (by decide) (zf_i (zf_r (zf_r (zf_i (zf_i zf_0))))) rfl h (fun v37 h => ?_)
          refine g_goto 61 dX0_passes_121 (by decide) ?_
          refine zG.sub [2, 3, 4, 0] rfl ?_
          have e := Option.some.inj h
          exact K22 _ _ _ e.symm
  refine zG.sub [1, 2, 0] rfl ?_
  refine zLoop_ok (Φ := (fun (q : Int32 × zMm) => match q with | (v4, m5) => zG X cX0_passes 5 "QuiverKin" "passes" 282 5951 2 [(0, va_rf a0), (1, va_rf a1), (2, .int v4)] [] g m5)) o1 ?_ zFuel _ h1
  rintro ⟨v4, m5⟩ x3 h hl3 hr3
  unfold b_X0_passes_2 at h
  have K3 : ∀ (v4 : Int32) (m5 : zMm), x3 = .inr (v4, m5) → zG X cX0_passes 5 "QuiverKin" "passes" 282 5951 2 [(0, va_rf a0), (1, va_rf a1), (2, .int v4)] [] g m5 := by
    intro v4 m5 e
    exact hr3 _ e
  show zG X cX0_passes 5 "QuiverKin" "passes" 282 5951 2 [(0, va_rf a0), (1, va_rf a1), (2, .int v4)] [] g m5
  refine g_iload_n dX0_passes_2 2 rfl ?_
  refine g_aload_n dX0_passes_3 0 rfl ?_
  refine g_cVRv (rv := fun x : Int32 => Value.int x) [] (fun x0 e0 => ok_X0_many (xl X) g m5 a0 x0 e0) zc0 (by decide) (lw_V q308 q310 qs0 q123 q311) rfl hy_X0_many rfl ⟨by decide, by decide⟩ rfl (zc_i zc_0) (by decide) dX0_passes_4 h (fun v6 h => ?_)
  refine g_icmp_ge 57 dX0_passes_7 (by decide) (fun c => ?_) (fun c => ?_)
  · have h := zite_p h c
    refine zG.sub [0, 1] rfl ?_
    have e := Option.some.inj h
    have e := hl3 _ e.symm
    exact K1 _ e.symm
  · have h := zite_n h c
    refine g_aload_n dX0_passes_10 1 rfl ?_
    refine g_iconst (v := (2 : Int32)) dX0_passes_11 (by decide) ?_
    refine g_iload_n dX0_passes_12 2 rfl ?_
    refine g_iadd dX0_passes_13 ?_
    refine g_iald dX0_passes_14 h (fun v7 h => ?_)
    refine g_istore_n [(3, .int v7), (0, va_rf a0), (1, va_rf a1), (2, .int v4)] dX0_passes_15 (by decide) (zf_r (zf_r (zf_i zf_0))) rfl ?_
    refine g_aload_n dX0_passes_16 2 rfl ?_
    refine g_bipush (v := (14 : Int32)) dX0_passes_17 (by decide) ?_
    refine g_iald dX0_passes_19 h (fun v8 h => ?_)
    refine g_iload_n dX0_passes_20 0 rfl ?_
    refine g_cSRv (rv := fun x : Int32 => Value.int x) [.int v8, .int v7] (fun x0 e0 => ok_X0_has (xl X) g m5 v8 v7 x0 e0) (lw_S q897 q898 q123 q899) hy_X0_has rfl ⟨by decide, by decide⟩ rfl zc_0 (by decide) dX0_passes_21 h (fun v9 h => ?_)
    refine g_if_ne 51 dX0_passes_24 (by decide) (fun c => ?_) (fun c => ?_)
    · have h := zite_n h c
      refine g_iinc (v := (1 : Int32)) [(3, .int v7), (0, va_rf a0), (1, va_rf a1)] dX0_passes_51 3 rfl (by decide) (by decide) (zf_i (zf_r (zf_r (zf_i zf_0)))) rfl h (fun v10 h => ?_)
      refine g_goto 2 dX0_passes_54 (by decide) ?_
      refine zG.sub [2, 3, 0] rfl ?_
      have e := Option.some.inj h
      exact K3 _ _ e.symm
    · have h := zite_p h c
      refine g_aload_n dX0_passes_27 2 rfl ?_
      refine g_bipush (v := (10 : Int32)) dX0_passes_28 (by decide) ?_
      refine g_cSMv (rv := fun x : Int32 => Value.int x) [va_rf a1, .int (10 : Int32)] (fun x0 m0 e0 => ok_X0_drawn (xl X) g m5 a1 (10 : Int32) x0 m0 e0) (lw_S q943 q944 q123 q945) hy_X0_drawn rfl ⟨by decide, by decide⟩ rfl zc_0 (by decide) dX0_passes_30 h (fun v11 m12 h => ?_)
      refine g_aload_n dX0_passes_33 1 rfl ?_
      refine g_aload_n dX0_passes_34 1 rfl ?_
      refine g_cVRv (rv := fun x : Option Nat => va_rf x) [] (fun x0 e0 => ok_X0_rules (xl X) g m12 a0 x0 e0) zc0 (by decide) (lw_V q946 q948 qs30 q123 q949) rfl hy_X0_rules rfl ⟨by decide, by decide⟩ rfl (zc_r (zc_i zc_0)) (by decide) dX0_passes_35 h (fun r13 h => ?_)
      refine g_aload_n dX0_passes_38 2 rfl ?_
      refine g_iload_n dX0_passes_39 0 rfl ?_
      refine g_cVMv (rv := fun x : Int32 => Value.int x) [va_rf r13, va_rf a1, .int v7] (fun x0 m0 e0 => ok_X0_reachesBy (xl X) g m12 a0 r13 a1 v7 x0 m0 e0) zc0 (by decide) (lw_V q952 q954 qs31 q123 q955) rfl hy_X0_reachesBy rfl ⟨by decide, by decide⟩ rfl (zc_i zc_0) (by decide) dX0_passes_40 h (fun v14 m15 h => ?_)
      refine g_icmp_ge 51 dX0_passes_43 (by decide) (fun c => ?_) (fun c => ?_)
      · have h := zite_p h c
        refine g_iinc (v := (1 : Int32)) [(3, .int v7), (0, va_rf a0), (1, va_rf a1)] dX0_passes_51 3 rfl (by decide) (by decide) (zf_i (zf_r (zf_r (zf_i zf_0)))) rfl h (fun v16 h => ?_)
        refine g_goto 2 dX0_passes_54 (by decide) ?_
        refine zG.sub [2, 3, 0] rfl ?_
        have e := Option.some.inj h
        exact K3 _ _ e.symm
      · have h := zite_n h c
        refine g_aload_n dX0_passes_46 2 rfl ?_
        refine g_iload_n dX0_passes_47 0 rfl ?_
        refine g_cSMn [va_rf a1, .int v7] (fun m0 e0 => ok_X0_reaches (xl X) g m15 a1 v7 m0 e0) (lw_S q904 q905 q123 q906) hy_X0_reaches rfl ⟨by decide, by decide⟩ rfl zc_0 (by decide) dX0_passes_48 h (fun m17 h => ?_)
        refine g_iinc (v := (1 : Int32)) [(3, .int v7), (0, va_rf a0), (1, va_rf a1)] dX0_passes_51 3 rfl (by decide) (by decide) (zf_i (zf_r (zf_r (zf_i zf_0)))) rfl h (fun v18 h => ?_)
        refine g_goto 2 dX0_passes_54 (by decide) ?_
        refine zG.sub [2, 3, 0] rfl ?_
        have e := Option.some.inj h
        exact K3 _ _ e.symm
/-! QuiverKin.dinner -/
def b_X0_dinner_33 (g : zGd) (a0 : Option Nat) (a1 : Int32) : Int32 × Int32 × zMm → Option ((Int32 × zMm) ⊕ (Int32 × Int32 × zMm)) := fun (v9, v10, m11) =>
if a1 ≤ v10 then (some (.inl ((v9, m11))))
else ((zgr g m11 0 0 a0).bind fun r12 =>
(zrc g 1 r12 (f_X1_keeps g m11 r12)).bind fun m13 =>
(zgr g m13 0 0 a0).bind fun r14 =>
(zgr g m13 1 1 r14).bind fun r15 =>
(zrc g 0 a0 (f_X0_passes g m13 a0 r15)).bind fun (v16, m17) =>
zlt (v9 + v16) fun v18 =>
zlt (v10 + (1 : Int32)) fun v19 =>
some (.inr (v18, v19, m17)))
def f_X0_dinner (g : zGd) (m : zMm) (a0 : Option Nat) (a1 : Int32) : Option (Int32 × zMm) :=
(f_X0_in a1 (1 : Int32) (60 : Int32)).bind fun v1 =>
if v1 = 0 then (some (((-1 : Int32), m)))
else ((zgr g m 0 0 a0).bind fun r2 =>
(zgr g m 1 1 r2).bind fun r3 =>
(zald 101 g m r3 (0 : Int32)).bind fun v4 =>
if (v4 + a1) ≤ (9999 : Int32) then ((zLoop (b_X0_dinner_33 g a0 a1) zFuel ((0 : Int32), (0 : Int32), m)).bind fun (v6, m7) =>
some ((v6, m7)))
else (some (((-1 : Int32), m))))
theorem hy_X0_dinner : zHy yX0_dinner 1 := ⟨by decide, by decide, by decide +kernel⟩
set_option maxHeartbeats 4000000 in
theorem ok_X0_dinner (l : Launch) (g : zGd) (m : zMm) (a0 : Option Nat) (a1 : Int32) (z0 : Int32) (m0 : zMm) (h : f_X0_dinner g m a0 a1 = some (z0, m0)) : zCT l yX0_dinner cX0_dinner 4 (some .int) 283 5975 g m [va_rf a0, .int a1] (some (.int z0)) g m0 := by
  refine zCT.of (own := "QuiverKin") (mn := "dinner") (by decide +kernel) rfl rfl (zla_r (zla_i zla_0)) (zls_r (zls_i zls_0)) (by decide) (fun X hxl hxg hxf hxt hxr hxn => ?_)
  have Kret : ∀ (y0 : Int32) (y1 : zMm), (y0, y1) = (z0, m0) → zRe X g y1 (some (.int y0)) := by
    intro y0 y1 e; cases e; exact ⟨hxf, hxr, hxn⟩
  subst hxl
  show zG X cX0_dinner 4 "QuiverKin" "dinner" 283 5975 0 [(0, va_rf a0), (1, .int a1)] [] g m
  unfold f_X0_dinner at h
  refine g_iload_n dX0_dinner_0 1 rfl ?_
  refine g_iconst (v := (1 : Int32)) dX0_dinner_1 (by decide) ?_
  refine g_bipush (v := (60 : Int32)) dX0_dinner_2 (by decide) ?_
  refine g_cSRv (rv := fun x : Int32 => Value.int x) [.int a1, .int (1 : Int32), .int (60 : Int32)] (fun x0 e0 => ok_X0_in (xl X) g m a1 (1 : Int32) (60 : Int32) x0 e0) (lw_S q312 q313 q123 q314) hy_X0_in rfl ⟨by decide, by decide⟩ rfl zc_0 (by decide) dX0_dinner_4 h (fun v1 h => ?_)
  refine g_if_eq 27 dX0_dinner_7 (by decide) (fun c => ?_) (fun c => ?_)
  · have h := zite_p h c
    refine g_iconst (v := (-1 : Int32)) dX0_dinner_27 (by decide) ?_
    refine g_iret dX0_dinner_28 hxt ?_
    have e := Option.some.inj h
    exact Kret _ _ e
  · have h := zite_n h c
    refine g_aload_n dX0_dinner_10 0 rfl ?_
    refine gf_r zfd_0_0 q239  (fun _ h9 => h9) dX0_dinner_11 h (fun r2 h => ?_)
    refine gf_rN zfd_1_1 q179  (fun _ h9 => h9) dX0_dinner_14 h (fun r3 h => ?_)
    refine g_iconst (v := (0 : Int32)) dX0_dinner_17 (by decide) ?_
    refine g_iald dX0_dinner_18 h (fun v4 h => ?_)
    refine g_iload_n dX0_dinner_19 1 rfl ?_
    refine g_iadd dX0_dinner_20 ?_
    refine g_sipush (v := (9999 : Int32)) dX0_dinner_21 (by decide) ?_
    refine g_icmp_le 29 dX0_dinner_24 (by decide) (fun c => ?_) (fun c => ?_)
    · have h := zite_p h c
      refine g_iconst (v := (0 : Int32)) dX0_dinner_29 (by decide) ?_
      refine g_istore_n [(2, .int (0 : Int32)), (0, va_rf a0), (1, .int a1)] dX0_dinner_30 (by decide) (zf_r (zf_i zf_0)) rfl ?_
      refine g_iconst (v := (0 : Int32)) dX0_dinner_31 (by decide) ?_
      refine g_istore_n [(3, .int (0 : Int32)), (2, .int (0 : Int32)), (0, va_rf a0), (1, .int a1)] dX0_dinner_32 (by decide) (zf_i (zf_r (zf_i zf_0))) rfl ?_
      obtain ⟨o5, h1, h2⟩ := zB_e h
      have K5 : ∀ (v6 : Int32) (m7 : zMm), o5 = (v6, m7) → zG X cX0_dinner 4 "QuiverKin" "dinner" 283 5975 65 [(2, .int v6)] [] g m7 := by
        intro v6 m7 e
        rw [e] at h2
        have h := h2
        refine g_iload_n dX0_dinner_65 0 rfl ?_
        refine g_iret dX0_dinner_66 hxt ?_
        have e := Option.some.inj h
        exact Kret _ _ e
      refine zG.sub [2, 3, 1, 0] rfl ?_
      refine zLoop_ok (Φ := (fun (q : Int32 × Int32 × zMm) => match q with | (v9, v10, m11) => zG X cX0_dinner 4 "QuiverKin" "dinner" 283 5975 33 [(0, va_rf a0), (1, .int a1), (2, .int v9), (3, .int v10)] [] g m11)) o5 ?_ zFuel _ h1
      rintro ⟨v9, v10, m11⟩ x8 h hl8 hr8
      unfold b_X0_dinner_33 at h
      have K8 : ∀ (v9 : Int32) (v10 : Int32) (m11 : zMm), x8 = .inr (v9, v10, m11) → zG X cX0_dinner 4 "QuiverKin" "dinner" 283 5975 33 [(0, va_rf a0), (1, .int a1), (2, .int v9), (3, .int v10)] [] g m11 := by
        intro v9 v10 m11 e
        exact hr8 _ e
      show zG X cX0_dinner 4 "QuiverKin" "dinner" 283 5975 33 [(0, va_rf a0), (1, .int a1), (2, .int v9), (3, .int v10)] [] g m11
      refine g_iload_n dX0_dinner_33 3 rfl ?_
      refine g_iload_n dX0_dinner_34 1 rfl ?_
      refine g_icmp_ge 65 dX0_dinner_35 (by decide) (fun c => ?_) (fun c => ?_)
      · have h := zite_p h c
        refine zG.sub [2] rfl ?_
        have e := Option.some.inj h
        have e := hl8 _ e.symm
        exact K5 _ _ e.symm
      · have h := zite_n h c
        refine g_aload_n dX0_dinner_38 0 rfl ?_
        refine gf_r zfd_0_0 q239  (fun _ h9 => h9) dX0_dinner_39 h (fun r12 h => ?_)
        refine g_cVMn [] (fun m0 e0 => ok_X1_keeps (xl X) g m11 r12 m0 e0) zc1 (by decide) (lw_V q900 q901 q902 q124 q903) rfl hy_X1_keeps rfl ⟨by decide, by decide⟩ rfl zc_0 (by decide) dX0_dinner_42 h (fun m13 h => ?_)
        refine g_iload_n dX0_dinner_45 2 rfl ?_
        refine g_aload_n dX0_dinner_46 0 rfl ?_
        refine g_aload_n dX0_dinner_47 0 rfl ?_
        refine gf_r zfd_0_0 q239  (fun _ h9 => h9) dX0_dinner_48 h (fun r14 h => ?_)
        refine gf_rN zfd_1_1 q179  (fun _ h9 => h9) dX0_dinner_51 h (fun r15 h => ?_)
        refine g_cVMv (rv := fun x : Int32 => Value.int x) [va_rf r15] (fun x0 m0 e0 => ok_X0_passes (xl X) g m13 a0 r15 x0 m0 e0) zc0 (by decide) (lw_V q939 q941 qs29 q123 q942) rfl hy_X0_passes rfl ⟨by decide, by decide⟩ rfl (zc_i zc_0) (by decide) dX0_dinner_54 h (fun v16 m17 h => ?_)
        refine g_iadd dX0_dinner_57 ?_
        refine g_leti h (fun v18 h => ?_)
        refine g_istore_n [(2, .int v18), (0, va_rf a0), (1, .int a1), (3, .int v10)] dX0_dinner_58 (by decide) (zf_r (zf_i (zf_i (zf_i zf_0)))) rfl ?_
        refine g_iinc (v := (1 : Int32)) [(2, .int v18), (0, va_rf a0), (1, .int a1)] dX0_dinner_59 3 rfl (by decide) (by decide) (zf_i (zf_r (zf_i (zf_i zf_0)))) rfl h (fun v19 h => ?_)
        refine g_goto 33 dX0_dinner_62 (by decide) ?_
        refine zG.sub [2, 3, 1, 0] rfl ?_
        have e := Option.some.inj h
        exact K8 _ _ _ e.symm
    · have h := zite_n h c
      refine g_iconst (v := (-1 : Int32)) dX0_dinner_27 (by decide) ?_
      refine g_iret dX0_dinner_28 hxt ?_
      have e := Option.some.inj h
      exact Kret _ _ e
/-! QuiverKin.passesAll -/
def b_X0_passesAll_2 (g : zGd) (a0 : Option Nat) (a1 : Int32) : Int32 × zMm → Option ((((Int32 × zMm) ⊕ (zMm))) ⊕ (Int32 × zMm)) := fun (v4, m5) =>
if a1 ≤ v4 then (some (.inl (.inr m5)))
else ((zrc g 0 a0 (f_X0_dinner g m5 a0 (1 : Int32))).bind fun (v6, m7) =>
if v6 = (-1 : Int32) then (some (.inl (.inl (((0 : Int32), m7)))))
else (zlt (v4 + (1 : Int32)) fun v8 =>
some (.inr (v8, m7))))
def f_X0_passesAll (g : zGd) (m : zMm) (a0 : Option Nat) (a1 : Int32) : Option (Int32 × zMm) :=
zEx (σ := zMm) (zLoop (b_X0_passesAll_2 g a0 a1) zFuel ((0 : Int32), m)) fun m2 =>
some (((1 : Int32), m2))
theorem hy_X0_passesAll : zHy yX0_passesAll 1 := ⟨by decide, by decide, by decide +kernel⟩
set_option maxHeartbeats 4000000 in
theorem ok_X0_passesAll (l : Launch) (g : zGd) (m : zMm) (a0 : Option Nat) (a1 : Int32) (z0 : Int32) (m0 : zMm) (h : f_X0_passesAll g m a0 a1 = some (z0, m0)) : zCT l yX0_passesAll cX0_passesAll 3 (some .boolean) 284 5998 g m [va_rf a0, .int a1] (some (.int z0)) g m0 := by
  refine zCT.of (own := "QuiverKin") (mn := "passesAll") (by decide +kernel) rfl rfl (zla_r (zla_i zla_0)) (zls_r (zls_i zls_0)) (by decide) (fun X hxl hxg hxf hxt hxr hxn => ?_)
  have Kret : ∀ (y0 : Int32) (y1 : zMm), (y0, y1) = (z0, m0) → zRe X g y1 (some (.int y0)) := by
    intro y0 y1 e; cases e; exact ⟨hxf, hxr, hxn⟩
  subst hxl
  show zG X cX0_passesAll 3 "QuiverKin" "passesAll" 284 5998 0 [(0, va_rf a0), (1, .int a1)] [] g m
  unfold f_X0_passesAll at h
  refine g_iconst (v := (0 : Int32)) dX0_passesAll_0 (by decide) ?_
  refine g_istore_n [(2, .int (0 : Int32)), (0, va_rf a0), (1, .int a1)] dX0_passesAll_1 (by decide) (zf_r (zf_i zf_0)) rfl ?_
  obtain ⟨o1, h1, hl1, hr1⟩ := zEx_e h
  have K1 : ∀ (m2 : zMm), o1 = .inr m2 → zG X cX0_passesAll 3 "QuiverKin" "passesAll" 284 5998 24 [] [] g m2 := by
    intro m2 e
    have h := hr1 _ e
    refine g_iconst (v := (1 : Int32)) dX0_passesAll_24 (by decide) ?_
    refine g_zret dX0_passesAll_25 hxt rfl ?_
    have e := Option.some.inj h
    exact Kret _ _ e
  refine zG.sub [1, 2, 0] rfl ?_
  refine zLoop_ok (Φ := (fun (q : Int32 × zMm) => match q with | (v4, m5) => zG X cX0_passesAll 3 "QuiverKin" "passesAll" 284 5998 2 [(0, va_rf a0), (1, .int a1), (2, .int v4)] [] g m5)) o1 ?_ zFuel _ h1
  rintro ⟨v4, m5⟩ x3 h hl3 hr3
  unfold b_X0_passesAll_2 at h
  have K3 : ∀ (v4 : Int32) (m5 : zMm), x3 = .inr (v4, m5) → zG X cX0_passesAll 3 "QuiverKin" "passesAll" 284 5998 2 [(0, va_rf a0), (1, .int a1), (2, .int v4)] [] g m5 := by
    intro v4 m5 e
    exact hr3 _ e
  show zG X cX0_passesAll 3 "QuiverKin" "passesAll" 284 5998 2 [(0, va_rf a0), (1, .int a1), (2, .int v4)] [] g m5
  refine g_iload_n dX0_passesAll_2 2 rfl ?_
  refine g_iload_n dX0_passesAll_3 1 rfl ?_
  refine g_icmp_ge 24 dX0_passesAll_4 (by decide) (fun c => ?_) (fun c => ?_)
  · have h := zite_p h c
    refine zG.sub [] rfl ?_
    have e := Option.some.inj h
    have e := hl3 _ e.symm
    exact K1 _ e.symm
  · have h := zite_n h c
    refine g_aload_n dX0_passesAll_7 0 rfl ?_
    refine g_iconst (v := (1 : Int32)) dX0_passesAll_8 (by decide) ?_
    refine g_cVMv (rv := fun x : Int32 => Value.int x) [.int (1 : Int32)] (fun x0 m0 e0 => ok_X0_dinner (xl X) g m5 a0 (1 : Int32) x0 m0 e0) zc0 (by decide) (lw_V q1123 q936 q937 q123 q938) rfl hy_X0_dinner rfl ⟨by decide, by decide⟩ rfl zc_0 (by decide) dX0_passesAll_9 h (fun v6 m7 h => ?_)
    refine g_iconst (v := (-1 : Int32)) dX0_passesAll_12 (by decide) ?_
    refine g_icmp_ne 18 dX0_passesAll_13 (by decide) (fun c => ?_) (fun c => ?_)
    · have h := zite_n h c
      refine g_iinc (v := (1 : Int32)) [(0, va_rf a0), (1, .int a1)] dX0_passesAll_18 2 rfl (by decide) (by decide) (zf_r (zf_i (zf_i zf_0))) rfl h (fun v8 h => ?_)
      refine g_goto 2 dX0_passesAll_21 (by decide) ?_
      refine zG.sub [1, 2, 0] rfl ?_
      have e := Option.some.inj h
      exact K3 _ _ e.symm
    · have h := zite_p h c
      refine g_iconst (v := (0 : Int32)) dX0_passesAll_16 (by decide) ?_
      refine g_zret dX0_passesAll_17 hxt rfl ?_
      have e := Option.some.inj h
      have e := hl3 _ e.symm
      have e := hl1 _ e.symm
      exact Kret _ _ e
/-! QuiverKin$Doing.a -/
def f_X16_a (g : zGd) (m : zMm) (a0 : Option Nat) : Option (Int32) :=
(zgi g m 16 1 a0).bind fun v1 =>
some (v1)
theorem hy_X16_a : zHy yX16_a 0 := ⟨by decide, by decide, by decide +kernel⟩
set_option maxHeartbeats 4000000 in
theorem ok_X16_a (l : Launch) (g : zGd) (m : zMm) (a0 : Option Nat) (z0 : Int32) (h : f_X16_a g m a0 = some z0) : zCT l yX16_a cX16_a 1 (some .int) 1 20 g m [va_rf a0] (some (.int z0)) g m := by
  refine zCT.of (own := "QuiverKin$Doing") (mn := "a") (by decide +kernel) rfl rfl (zla_r zla_0) (zls_r zls_0) (by decide) (fun X hxl hxg hxf hxt hxr hxn => ?_)
  have Kret : ∀ (y0 : Int32), y0 = z0 → zRe X g m (some (.int y0)) := by
    intro y0 e; cases e; exact ⟨hxf, hxr, hxn⟩
  subst hxl
  show zG X cX16_a 1 "QuiverKin$Doing" "a" 1 20 0 [(0, va_rf a0)] [] g m
  unfold f_X16_a at h
  refine g_aload_n dX16_a_0 0 rfl ?_
  refine gf_i zfd_16_1 q861  (fun _ h9 => h9) dX16_a_1 h (fun v1 h => ?_)
  refine g_iret dX16_a_4 hxt ?_
  have e := Option.some.inj h
  exact Kret _ e
