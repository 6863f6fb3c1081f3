/-! methods (printed by gen/run2.py) -/
set_option maxRecDepth 100000
/-! java/util/AbstractCollection.<init> -/
def f_J0_init (g : zGd) (m : zMm) (a0 : Option Nat) : Option (Unit) :=
zob a0 (some (()))
theorem hy_J0_init : zHy yJ0_init 0 := ⟨by decide, by decide, by decide +kernel⟩
set_option maxHeartbeats 4000000 in
theorem ok_J0_init (l : Launch) (g : zGd) (m : zMm) (a0 : Option Nat) (z0 : Unit) (h : f_J0_init g m a0 = some z0) : zCT l yJ0_init cJ0_init 1 none 1 20 g m [va_rf a0] none g m := by
  refine zCT.of (own := "java/util/AbstractCollection") (mn := "<init>") (by decide +kernel) rfl rfl (zla_r zla_0) (zls_r zls_0) (by decide) (fun X hxl hxg hxf hxt hxr hxn => ?_)
  have Kret : ∀ (y0 : Unit), y0 = z0 → zRe X g m none := by
    intro y0 e; exact ⟨hxf, hxr, hxn⟩
  subst hxl
  show zG X cJ0_init 1 "java/util/AbstractCollection" "<init>" 1 20 0 [(0, va_rf a0)] [] g m
  unfold f_J0_init at h
  refine g_aload_n dJ0_init_0 0 rfl ?_
  obtain ⟨hs, h⟩ := zob_e h
  refine g_oinit q390 q164 q165 hs zc_0 (by decide) (by decide) dJ0_init_1 ?_
  refine g_vret dJ0_init_4 hxt ?_
  have e := Option.some.inj h
  exact Kret _ e
/-! java/util/AbstractList.<init> -/
def f_J1_init (g : zGd) (m : zMm) (a0 : Option Nat) : Option (zMm) :=
zob a0 ((f_J0_init g m a0).bind fun _ =>
(zpi g m 17 0 a0 (0 : Int32)).bind fun m1 =>
some (m1))
theorem hy_J1_init : zHy yJ1_init 0 := ⟨by decide, by decide, by decide +kernel⟩
set_option maxHeartbeats 4000000 in
theorem ok_J1_init (l : Launch) (g : zGd) (m : zMm) (a0 : Option Nat) (m0 : zMm) (h : f_J1_init g m a0 = some m0) : zCT l yJ1_init cJ1_init 1 none 2 40 g m [va_rf a0] none g m0 := by
  refine zCT.of (own := "java/util/AbstractList") (mn := "<init>") (by decide +kernel) rfl rfl (zla_r zla_0) (zls_r zls_0) (by decide) (fun X hxl hxg hxf hxt hxr hxn => ?_)
  have Kret : ∀ (y0 : zMm), y0 = m0 → zRe X g y0 none := by
    intro y0 e; cases e; exact ⟨hxf, hxr, hxn⟩
  subst hxl
  show zG X cJ1_init 1 "java/util/AbstractList" "<init>" 2 40 0 [(0, va_rf a0)] [] g m
  unfold f_J1_init at h
  refine g_aload_n dJ1_init_0 0 rfl ?_
  obtain ⟨hs, h⟩ := zob_e h
  refine g_cIRn [] (fun x0 e0 => ok_J0_init (xl X) g m a0 x0 e0) (lw_meth q389) q129 q387 q388 rfl hy_J0_init rfl ⟨by decide, by decide⟩ rfl zc_0 (by decide) hs dJ1_init_1 h (fun _ h => ?_)
  refine g_aload_n dJ1_init_4 0 rfl ?_
  refine g_iconst (v := (0 : Int32)) dJ1_init_5 (by decide) ?_
  refine gp_i zpd_17_0 q395 (fun _ h9 => h9) dJ1_init_6 h (fun m1 h => ?_)
  refine g_vret dJ1_init_9 hxt ?_
  have e := Option.some.inj h
  exact Kret _ e
/-! java/lang/Record.<init> -/
def f_J10_init (g : zGd) (m : zMm) (a0 : Option Nat) : Option (Unit) :=
zob a0 (some (()))
theorem hy_J10_init : zHy yJ10_init 0 := ⟨by decide, by decide, by decide +kernel⟩
set_option maxHeartbeats 4000000 in
theorem ok_J10_init (l : Launch) (g : zGd) (m : zMm) (a0 : Option Nat) (z0 : Unit) (h : f_J10_init g m a0 = some z0) : zCT l yJ10_init cJ10_init 1 none 1 20 g m [va_rf a0] none g m := by
  refine zCT.of (own := "java/lang/Record") (mn := "<init>") (by decide +kernel) rfl rfl (zla_r zla_0) (zls_r zls_0) (by decide) (fun X hxl hxg hxf hxt hxr hxn => ?_)
  have Kret : ∀ (y0 : Unit), y0 = z0 → zRe X g m none := by
    intro y0 e; exact ⟨hxf, hxr, hxn⟩
  subst hxl
  show zG X cJ10_init 1 "java/lang/Record" "<init>" 1 20 0 [(0, va_rf a0)] [] g m
  unfold f_J10_init at h
  refine g_aload_n dJ10_init_0 0 rfl ?_
  obtain ⟨hs, h⟩ := zob_e h
  refine g_oinit q582 q164 q165 hs zc_0 (by decide) (by decide) dJ10_init_1 ?_
  refine g_vret dJ10_init_4 hxt ?_
  have e := Option.some.inj h
  exact Kret _ e
/-! java/lang/Math.max -/
def f_J7_max (a0 : Int32) (a1 : Int32) : Option (Int32) :=
if a0 < a1 then (some (a1))
else (some (a0))
theorem hy_J7_max : zHy yJ7_max 2 := ⟨by decide, by decide, by decide +kernel⟩
set_option maxHeartbeats 4000000 in
theorem ok_J7_max (l : Launch) (g : zGd) (m : zMm) (a0 : Int32) (a1 : Int32) (z0 : Int32) (h : f_J7_max a0 a1 = some z0) : zCT l yJ7_max cJ7_max 2 (some .int) 1 20 g m [.int a0, .int a1] (some (.int z0)) g m := by
  refine zCT.of (own := "java/lang/Math") (mn := "max") (by decide +kernel) rfl rfl (zla_i (zla_i zla_0)) (zls_i (zls_i zls_0)) (by decide) (fun X hxl hxg hxf hxt hxr hxn => ?_)
  have Kret : ∀ (y0 : Int32), y0 = z0 → zRe X g m (some (.int y0)) := by
    intro y0 e; cases e; exact ⟨hxf, hxr, hxn⟩
  subst hxl
  show zG X cJ7_max 2 "java/lang/Math" "max" 1 20 0 [(0, .int a0), (1, .int a1)] [] g m
  unfold f_J7_max at h
  refine g_iload_n dJ7_max_0 0 rfl ?_
  refine g_iload_n dJ7_max_1 1 rfl ?_
  refine g_icmp_lt 9 dJ7_max_2 (by decide) (fun c => ?_) (fun c => ?_)
  · have h := zite_p h c
    refine g_iload_n dJ7_max_9 1 rfl ?_
    refine g_iret dJ7_max_10 hxt ?_
    have e := Option.some.inj h
    exact Kret _ e
  · have h := zite_n h c
    refine g_iload_n dJ7_max_5 0 rfl ?_
    refine g_goto 10 dJ7_max_6 (by decide) ?_
    refine g_iret dJ7_max_10 hxt ?_
    have e := Option.some.inj h
    exact Kret _ e
/-! jdk/internal/util/ArraysSupport.hugeLength -/
def f_J11_hugeLength (g : zGd) (m : zMm) (a0 : Int32) (a1 : Int32) : Option (Int32 × zGd × zMm) :=
zlt (a0 + a1) fun v1 =>
if 0 ≤ v1 then (if (2147483639 : Int32) < v1 then (some ((v1, g, m)))
else (some (((2147483639 : Int32), g, m))))
else (none)
theorem hy_J11_hugeLength : zHy yJ11_hugeLength 2 := ⟨by decide, by decide, by decide +kernel⟩
set_option maxHeartbeats 4000000 in
theorem ok_J11_hugeLength (l : Launch) (g : zGd) (m : zMm) (a0 : Int32) (a1 : Int32) (z0 : Int32) (g0 : zGd) (m0 : zMm) (h : f_J11_hugeLength g m a0 a1 = some (z0, g0, m0)) : zCT l yJ11_hugeLength cJ11_hugeLength 3 (some .int) 1 20 g m [.int a0, .int a1] (some (.int z0)) g0 m0 := by
  refine zCT.of (own := "jdk/internal/util/ArraysSupport") (mn := "hugeLength") (by decide +kernel) rfl rfl (zla_i (zla_i zla_0)) (zls_i (zls_i zls_0)) (by decide) (fun X hxl hxg hxf hxt hxr hxn => ?_)
  have Kret : ∀ (y0 : Int32) (y1 : zGd) (y2 : zMm), (y0, y1, y2) = (z0, g0, m0) → zRe X y1 y2 (some (.int y0)) := by
    intro y0 y1 y2 e; cases e; exact ⟨hxf, hxr, hxn⟩
  subst hxl
  show zG X cJ11_hugeLength 3 "jdk/internal/util/ArraysSupport" "hugeLength" 1 20 0 [(0, .int a0), (1, .int a1)] [] g m
  unfold f_J11_hugeLength at h
  refine g_iload_n dJ11_hugeLength_0 0 rfl ?_
  refine g_iload_n dJ11_hugeLength_1 1 rfl ?_
  refine g_iadd dJ11_hugeLength_2 ?_
  refine g_leti h (fun v1 h => ?_)
  refine g_istore_n [(2, .int v1), (0, .int a0), (1, .int a1)] dJ11_hugeLength_3 (by decide) (zf_i (zf_i zf_0)) rfl ?_
  refine g_iload_n dJ11_hugeLength_4 0 rfl ?_
  refine g_if_ge 49 dJ11_hugeLength_5 (by decide) (fun c => ?_) (fun c => ?_)
  · have h := zite_p h c
    refine g_iload_n dJ11_hugeLength_49 0 rfl ?_
    refine g_ldc (v := (2147483639 : Int32)) q657 dJ11_hugeLength_50 ?_
    refine g_icmp_gt 58 dJ11_hugeLength_52 (by decide) (fun c => ?_) (fun c => ?_)
    · have h := zite_p h c
      refine g_iload_n dJ11_hugeLength_58 0 rfl ?_
      refine g_iret dJ11_hugeLength_59 hxt ?_
      have e := Option.some.inj h
      exact Kret _ _ _ e
    · have h := zite_n h c
      refine g_ldc (v := (2147483639 : Int32)) q657 dJ11_hugeLength_55 ?_
      refine g_iret dJ11_hugeLength_57 hxt ?_
      have e := Option.some.inj h
      exact Kret _ _ _ e
  · have h := zite_n h c
    cases h
/-! jdk/internal/util/ArraysSupport.newLength -/
def f_J11_newLength (g : zGd) (m : zMm) (a0 : Int32) (a1 : Int32) (a2 : Int32) : Option (Int32 × zGd × zMm) :=
(f_J7_max a1 a2).bind fun v1 =>
zlt (a0 + v1) fun v2 =>
zEx (σ := Unit) (if v2 ≤ (0 : Int32) then (some (.inr ()))
else (if (2147483639 : Int32) < v2 then (some (.inr ()))
else (some (.inl ((v2, g, m)))))) fun _ =>
(f_J11_hugeLength g m a0 a1).bind fun (v4, g5, m6) =>
some ((v4, g5, m6))
theorem hy_J11_newLength : zHy yJ11_newLength 3 := ⟨by decide, by decide, by decide +kernel⟩
set_option maxHeartbeats 4000000 in
theorem ok_J11_newLength (l : Launch) (g : zGd) (m : zMm) (a0 : Int32) (a1 : Int32) (a2 : Int32) (z0 : Int32) (g0 : zGd) (m0 : zMm) (h : f_J11_newLength g m a0 a1 a2 = some (z0, g0, m0)) : zCT l yJ11_newLength cJ11_newLength 4 (some .int) 2 42 g m [.int a0, .int a1, .int a2] (some (.int z0)) g0 m0 := by
  refine zCT.of (own := "jdk/internal/util/ArraysSupport") (mn := "newLength") (by decide +kernel) rfl rfl (zla_i (zla_i (zla_i zla_0))) (zls_i (zls_i (zls_i zls_0))) (by decide) (fun X hxl hxg hxf hxt hxr hxn => ?_)
  have Kret : ∀ (y0 : Int32) (y1 : zGd) (y2 : zMm), (y0, y1, y2) = (z0, g0, m0) → zRe X y1 y2 (some (.int y0)) := by
    intro y0 y1 y2 e; cases e; exact ⟨hxf, hxr, hxn⟩
  subst hxl
  show zG X cJ11_newLength 4 "jdk/internal/util/ArraysSupport" "newLength" 2 42 0 [(0, .int a0), (1, .int a1), (2, .int a2)] [] g m
  unfold f_J11_newLength at h
  refine g_iload_n dJ11_newLength_0 0 rfl ?_
  refine g_iload_n dJ11_newLength_1 1 rfl ?_
  refine g_iload_n dJ11_newLength_2 2 rfl ?_
  refine g_cSRv (rv := fun x : Int32 => Value.int x) [.int a1, .int a2] (fun x0 e0 => ok_J7_max (xl X) g m a1 a2 x0 e0) (lw_S q654 q655 q136 q656) hy_J7_max rfl ⟨by decide, by decide⟩ rfl (zc_i zc_0) (by decide) dJ11_newLength_3 h (fun v1 h => ?_)
  refine g_iadd dJ11_newLength_6 ?_
  refine g_leti h (fun v2 h => ?_)
  refine g_istore_n [(3, .int v2), (0, .int a0), (1, .int a1), (2, .int a2)] dJ11_newLength_7 (by decide) (zf_i (zf_i (zf_i zf_0))) rfl ?_
  refine g_iconst (v := (0 : Int32)) dJ11_newLength_8 (by decide) ?_
  refine g_iload_n dJ11_newLength_9 0 rfl ?_
  obtain ⟨o3, h1, hl3, hr3⟩ := zEx_e h
  have K3 : o3 = .inr () → zG X cJ11_newLength 4 "jdk/internal/util/ArraysSupport" "newLength" 2 42 21 [(0, .int a0), (1, .int a1)] [] g m := by
    intro e
    have h := hr3 _ e
    refine g_iload_n dJ11_newLength_21 0 rfl ?_
    refine g_iload_n dJ11_newLength_22 1 rfl ?_
    refine g_cSAv (rv := fun x : Int32 => Value.int x) [.int a0, .int a1] (fun x0 g0 m0 e0 => ok_J11_hugeLength (xl X) g m a0 a1 x0 g0 m0 e0) (lw_S q658 q659 q145 q660) hy_J11_hugeLength rfl ⟨by decide, by decide⟩ rfl zc_0 (by decide) dJ11_newLength_23 h (fun v4 g5 m6 h => ?_)
    refine g_iret dJ11_newLength_26 hxt ?_
    have e := Option.some.inj h
    exact Kret _ _ _ e
  have h := h1
  refine g_icmp_ge 21 dJ11_newLength_10 (by decide) (fun c => ?_) (fun c => ?_)
  · have h := zite_p h c
    refine zG.sub [1, 2] rfl ?_
    have e := Option.some.inj h
    exact K3 e.symm
  · have h := zite_n h c
    refine g_iload_n dJ11_newLength_13 0 rfl ?_
    refine g_ldc (v := (2147483639 : Int32)) q657 dJ11_newLength_14 ?_
    refine g_icmp_gt 21 dJ11_newLength_16 (by decide) (fun c => ?_) (fun c => ?_)
    · have h := zite_p h c
      refine zG.sub [1, 2] rfl ?_
      have e := Option.some.inj h
      exact K3 e.symm
    · have h := zite_n h c
      refine g_iload_n dJ11_newLength_19 0 rfl ?_
      refine g_iret dJ11_newLength_20 hxt ?_
      have e := Option.some.inj h
      have e := hl3 _ e.symm
      exact Kret _ _ _ e
/-! java/lang/Math.min -/
def f_J7_min (a0 : Int32) (a1 : Int32) : Option (Int32) :=
if a1 < a0 then (some (a1))
else (some (a0))
theorem hy_J7_min : zHy yJ7_min 2 := ⟨by decide, by decide, by decide +kernel⟩
set_option maxHeartbeats 4000000 in
theorem ok_J7_min (l : Launch) (g : zGd) (m : zMm) (a0 : Int32) (a1 : Int32) (z0 : Int32) (h : f_J7_min a0 a1 = some z0) : zCT l yJ7_min cJ7_min 2 (some .int) 1 20 g m [.int a0, .int a1] (some (.int z0)) g m := by
  refine zCT.of (own := "java/lang/Math") (mn := "min") (by decide +kernel) rfl rfl (zla_i (zla_i zla_0)) (zls_i (zls_i zls_0)) (by decide) (fun X hxl hxg hxf hxt hxr hxn => ?_)
  have Kret : ∀ (y0 : Int32), y0 = z0 → zRe X g m (some (.int y0)) := by
    intro y0 e; cases e; exact ⟨hxf, hxr, hxn⟩
  subst hxl
  show zG X cJ7_min 2 "java/lang/Math" "min" 1 20 0 [(0, .int a0), (1, .int a1)] [] g m
  unfold f_J7_min at h
  refine g_iload_n dJ7_min_0 0 rfl ?_
  refine g_iload_n dJ7_min_1 1 rfl ?_
  refine g_icmp_gt 9 dJ7_min_2 (by decide) (fun c => ?_) (fun c => ?_)
  · have h := zite_p h c
    refine g_iload_n dJ7_min_9 1 rfl ?_
    refine g_iret dJ7_min_10 hxt ?_
    have e := Option.some.inj h
    exact Kret _ e
  · have h := zite_n h c
    refine g_iload_n dJ7_min_5 0 rfl ?_
    refine g_goto 10 dJ7_min_6 (by decide) ?_
    refine g_iret dJ7_min_10 hxt ?_
    have e := Option.some.inj h
    exact Kret _ e
/-! java/util/Arrays.copyOf -/
def f_J12_copyOf_2 (g : zGd) (m : zMm) (a0 : Option Nat) (a1 : Int32) (a2 : Option Nat) : Option (Option Nat × zGd × zMm) :=
((if a2 = (zS g 20) then ((znewa 105 g m a1).bind fun (g5, m6) =>
zlt (some (zZ g)) fun r7 =>
some ((r7, g5, m6)))
else (none) : Option (Option Nat × zGd × zMm))).bind fun (r2, g3, m4) =>
(zalen g3 a0).bind fun v8 =>
(f_J7_min v8 a1).bind fun v9 =>
(zcpr 4 g3 m4 a0 (0 : Int32) r2 (0 : Int32) v9).bind fun m10 =>
some ((r2, g3, m10))
theorem hy_J12_copyOf_2 : zHy yJ12_copyOf_2 3 := ⟨by decide, by decide, by decide +kernel⟩
set_option maxHeartbeats 4000000 in
theorem ok_J12_copyOf_2 (l : Launch) (g : zGd) (m : zMm) (a0 : Option Nat) (a1 : Int32) (a2 : Option Nat) (z0 : Option Nat) (g0 : zGd) (m0 : zMm) (h : f_J12_copyOf_2 g m a0 a1 a2 = some (z0, g0, m0)) : zCT l yJ12_copyOf_2 cJ12_copyOf_2 4 (some (.array (.object "java/lang/Object"))) 2 41 g m [va_rf a0, .int a1, va_rf a2] (some (va_rf z0)) g0 m0 := by
  refine zCT.of (own := "java/util/Arrays") (mn := "copyOf") (by decide +kernel) rfl rfl (zla_r (zla_i (zla_r zla_0))) (zls_r (zls_i (zls_r zls_0))) (by decide) (fun X hxl hxg hxf hxt hxr hxn => ?_)
  have Kret : ∀ (y0 : Option Nat) (y1 : zGd) (y2 : zMm), (y0, y1, y2) = (z0, g0, m0) → zRe X y1 y2 (some (va_rf y0)) := by
    intro y0 y1 y2 e; cases e; exact ⟨hxf, hxr, hxn⟩
  subst hxl
  show zG X cJ12_copyOf_2 4 "java/util/Arrays" "copyOf" 2 41 0 [(0, va_rf a0), (1, .int a1), (2, va_rf a2)] [] g m
  unfold f_J12_copyOf_2 at h
  refine g_aload_n dJ12_copyOf_2_0 2 rfl ?_
  refine g_mir q690 dJ12_copyOf_2_1 ?_
  obtain ⟨o1, h1, h2⟩ := zB_e h
  have K1 : ∀ (r2 : Option Nat) (g3 : zGd) (m4 : zMm), o1 = (r2, g3, m4) → zG X cJ12_copyOf_2 4 "java/util/Arrays" "copyOf" 2 41 24 [(0, va_rf a0), (1, .int a1)] [va_rf r2] g3 m4 := by
    intro r2 g3 m4 e
    rw [e] at h2
    have h := h2
    refine g_astore_n [(3, va_rf r2), (0, va_rf a0), (1, .int a1)] dJ12_copyOf_2_24 (by decide) (zf_r (zf_i zf_0)) rfl ?_
    refine g_aload_n dJ12_copyOf_2_25 1 rfl ?_
    refine g_iconst (v := (0 : Int32)) dJ12_copyOf_2_26 (by decide) ?_
    refine g_aload_n dJ12_copyOf_2_27 0 rfl ?_
    refine g_iconst (v := (0 : Int32)) dJ12_copyOf_2_28 (by decide) ?_
    refine g_aload_n dJ12_copyOf_2_29 1 rfl ?_
    refine g_alen dJ12_copyOf_2_30 h (fun v8 h => ?_)
    refine g_iload_n dJ12_copyOf_2_31 2 rfl ?_
    refine g_cSRv (rv := fun x : Int32 => Value.int x) [.int v8, .int a1] (fun x0 e0 => ok_J7_min (xl X) g3 m4 v8 a1 x0 e0) (lw_S q693 q485 q136 q486) hy_J7_min rfl ⟨by decide, by decide⟩ rfl (zc_i (zc_r (zc_i (zc_r zc_0)))) (by decide) dJ12_copyOf_2_32 h (fun v9 h => ?_)
    refine g_cpyr 4 rfl (by decide) q694 q235 q234 q125 zc_0 (by decide) (by decide) dJ12_copyOf_2_35 h (fun m10 h => ?_)
    refine g_aload_n dJ12_copyOf_2_38 0 rfl ?_
    refine g_aret dJ12_copyOf_2_39 hxt (by first | exact Or.inl ⟨_, rfl⟩ | exact Or.inr ⟨_, rfl⟩) ?_
    have e := Option.some.inj h
    exact Kret _ _ _ e
  have h := h1
  refine g_acmp_ne 13 dJ12_copyOf_2_3 (by decide) (fun c => ?_) (fun c => ?_)
  · have h := zite_n h c
    refine g_aload_n dJ12_copyOf_2_13 2 rfl ?_
    cases h
  · have h := zite_p h c
    refine g_iload_n dJ12_copyOf_2_6 1 rfl ?_
    refine g_anew 4 rfl (by decide) q692 q691 dJ12_copyOf_2_7 h (fun g5 m6 h => ?_)
    refine g_letr h (fun r7 h => ?_)
    refine g_goto 24 dJ12_copyOf_2_10 (by decide) ?_
    refine zG.sub [0, 1] rfl ?_
    have e := Option.some.inj h
    exact K1 _ _ _ e.symm
/-! java/util/Arrays.copyOf -/
def f_J12_copyOf (g : zGd) (m : zMm) (a0 : Option Nat) (a1 : Int32) : Option (Option Nat × zGd × zMm) :=
(zgc g a0).bind fun r1 =>
(f_J12_copyOf_2 g m a0 a1 r1).bind fun (r2, g3, m4) =>
some ((r2, g3, m4))
theorem hy_J12_copyOf : zHy yJ12_copyOf 2 := ⟨by decide, by decide, by decide +kernel⟩
set_option maxHeartbeats 4000000 in
theorem ok_J12_copyOf (l : Launch) (g : zGd) (m : zMm) (a0 : Option Nat) (a1 : Int32) (z0 : Option Nat) (g0 : zGd) (m0 : zMm) (h : f_J12_copyOf g m a0 a1 = some (z0, g0, m0)) : zCT l yJ12_copyOf cJ12_copyOf 2 (some (.array (.object "java/lang/Object"))) 3 64 g m [va_rf a0, .int a1] (some (va_rf z0)) g0 m0 := by
  refine zCT.of (own := "java/util/Arrays") (mn := "copyOf") (by decide +kernel) rfl rfl (zla_r (zla_i zla_0)) (zls_r (zls_i zls_0)) (by decide) (fun X hxl hxg hxf hxt hxr hxn => ?_)
  have Kret : ∀ (y0 : Option Nat) (y1 : zGd) (y2 : zMm), (y0, y1, y2) = (z0, g0, m0) → zRe X y1 y2 (some (va_rf y0)) := by
    intro y0 y1 y2 e; cases e; exact ⟨hxf, hxr, hxn⟩
  subst hxl
  show zG X cJ12_copyOf 2 "java/util/Arrays" "copyOf" 3 64 0 [(0, va_rf a0), (1, .int a1)] [] g m
  unfold f_J12_copyOf at h
  refine g_aload_n dJ12_copyOf_0 0 rfl ?_
  refine g_iload_n dJ12_copyOf_1 1 rfl ?_
  refine g_aload_n dJ12_copyOf_2 0 rfl ?_
  refine g_getC q664 (zc_i (zc_r zc_0)) (by decide) (by decide) dJ12_copyOf_3 h (fun r1 h => ?_)
  refine g_cSAv (rv := fun x : Option Nat => va_rf x) [va_rf a0, .int a1, va_rf r1] (fun x0 g0 m0 e0 => ok_J12_copyOf_2 (xl X) g m a0 a1 r1 x0 g0 m0 e0) (lw_S q687 q688 q146 q689) hy_J12_copyOf_2 rfl ⟨by decide, by decide⟩ rfl zc_0 (by decide) dJ12_copyOf_6 h (fun r2 g3 m4 h => ?_)
  refine g_aret dJ12_copyOf_9 hxt (by first | exact Or.inl ⟨_, rfl⟩ | exact Or.inr ⟨_, rfl⟩) ?_
  have e := Option.some.inj h
  exact Kret _ _ _ e
/-! java/util/Arrays.fill -/
def b_J12_fill_5 (g : zGd) (a0 : Option Nat) (a1 : Int32) (v1 : Int32) : Int32 × zMm → Option ((zMm) ⊕ (Int32 × zMm)) := fun (v5, m6) =>
if v1 ≤ v5 then (some (.inl m6))
else ((zast 101 g m6 a0 v5 a1).bind fun m7 =>
zlt (v5 + (1 : Int32)) fun v8 =>
some (.inr (v8, m7)))
def f_J12_fill (g : zGd) (m : zMm) (a0 : Option Nat) (a1 : Int32) : Option (zMm) :=
(zalen g a0).bind fun v1 =>
(zLoop (b_J12_fill_5 g a0 a1 v1) zFuel ((0 : Int32), m)).bind fun m3 =>
some (m3)
theorem hy_J12_fill : zHy yJ12_fill 2 := ⟨by decide, by decide, by decide +kernel⟩
set_option maxHeartbeats 4000000 in
theorem ok_J12_fill (l : Launch) (g : zGd) (m : zMm) (a0 : Option Nat) (a1 : Int32) (m0 : zMm) (h : f_J12_fill g m a0 a1 = some m0) : zCT l yJ12_fill cJ12_fill 4 none 1 20 g m [va_rf a0, .int a1] none g m0 := by
  refine zCT.of (own := "java/util/Arrays") (mn := "fill") (by decide +kernel) rfl rfl (zla_r (zla_i zla_0)) (zls_r (zls_i zls_0)) (by decide) (fun X hxl hxg hxf hxt hxr hxn => ?_)
  have Kret : ∀ (y0 : zMm), y0 = m0 → zRe X g y0 none := by
    intro y0 e; cases e; exact ⟨hxf, hxr, hxn⟩
  subst hxl
  show zG X cJ12_fill 4 "java/util/Arrays" "fill" 1 20 0 [(0, va_rf a0), (1, .int a1)] [] g m
  unfold f_J12_fill at h
  refine g_iconst (v := (0 : Int32)) dJ12_fill_0 (by decide) ?_
  refine g_istore_n [(2, .int (0 : Int32)), (0, va_rf a0), (1, .int a1)] dJ12_fill_1 (by decide) (zf_r (zf_i zf_0)) rfl ?_
  refine g_aload_n dJ12_fill_2 1 rfl ?_
  refine g_alen dJ12_fill_3 h (fun v1 h => ?_)
  refine g_istore_n [(3, .int v1), (2, .int (0 : Int32)), (0, va_rf a0), (1, .int a1)] dJ12_fill_4 (by decide) (zf_i (zf_r (zf_i zf_0))) rfl ?_
  obtain ⟨o2, h1, h2⟩ := zB_e h
  have K2 : ∀ (m3 : zMm), o2 = m3 → zG X cJ12_fill 4 "java/util/Arrays" "fill" 1 20 20 [] [] g m3 := by
    intro m3 e
    rw [e] at h2
    have h := h2
    refine g_vret dJ12_fill_20 hxt ?_
    have e := Option.some.inj h
    exact Kret _ e
  refine zG.sub [2, 3, 1, 0] rfl ?_
  refine zLoop_ok (Φ := (fun (q : Int32 × zMm) => match q with | (v5, m6) => zG X cJ12_fill 4 "java/util/Arrays" "fill" 1 20 5 [(0, va_rf a0), (1, .int a1), (2, .int v5), (3, .int v1)] [] g m6)) o2 ?_ zFuel _ h1
  rintro ⟨v5, m6⟩ x4 h hl4 hr4
  unfold b_J12_fill_5 at h
  have K4 : ∀ (v5 : Int32) (m6 : zMm), x4 = .inr (v5, m6) → zG X cJ12_fill 4 "java/util/Arrays" "fill" 1 20 5 [(0, va_rf a0), (1, .int a1), (2, .int v5), (3, .int v1)] [] g m6 := by
    intro v5 m6 e
    exact hr4 _ e
  show zG X cJ12_fill 4 "java/util/Arrays" "fill" 1 20 5 [(0, va_rf a0), (1, .int a1), (2, .int v5), (3, .int v1)] [] g m6
  refine g_iload_n dJ12_fill_5 2 rfl ?_
  refine g_iload_n dJ12_fill_6 3 rfl ?_
  refine g_icmp_ge 20 dJ12_fill_7 (by decide) (fun c => ?_) (fun c => ?_)
  · have h := zite_p h c
    refine zG.sub [] rfl ?_
    have e := Option.some.inj h
    have e := hl4 _ e.symm
    exact K2 _ e.symm
  · have h := zite_n h c
    refine g_aload_n dJ12_fill_10 0 rfl ?_
    refine g_iload_n dJ12_fill_11 2 rfl ?_
    refine g_iload_n dJ12_fill_12 1 rfl ?_
    refine g_iast dJ12_fill_13 h (fun m7 h => ?_)
    refine g_iinc (v := (1 : Int32)) [(0, va_rf a0), (1, .int a1), (3, .int v1)] dJ12_fill_14 2 rfl (by decide) (by decide) (zf_r (zf_i (zf_i (zf_i zf_0)))) rfl h (fun v8 h => ?_)
    refine g_goto 5 dJ12_fill_17 (by decide) ?_
    refine zG.sub [1, 2, 0, 3] rfl ?_
    have e := Option.some.inj h
    exact K4 _ _ e.symm
/-! jdk/internal/util/Preconditions.checkIndex -/
def f_J5_checkIndex (a0 : Int32) (a1 : Int32) (a2 : Option Nat) : Option (Int32) :=
zEx (σ := Unit) (if a0 < 0 then (some (.inr ()))
else (if a0 < a1 then (some (.inl a0))
else (some (.inr ())))) fun _ =>
none
theorem hy_J5_checkIndex : zHy yJ5_checkIndex 3 := ⟨by decide, by decide, by decide +kernel⟩
set_option maxHeartbeats 4000000 in
theorem ok_J5_checkIndex (l : Launch) (g : zGd) (m : zMm) (a0 : Int32) (a1 : Int32) (a2 : Option Nat) (z0 : Int32) (h : f_J5_checkIndex a0 a1 a2 = some z0) : zCT l yJ5_checkIndex cJ5_checkIndex 3 (some .int) 1 20 g m [.int a0, .int a1, va_rf a2] (some (.int z0)) g m := by
  refine zCT.of (own := "jdk/internal/util/Preconditions") (mn := "checkIndex") (by decide +kernel) rfl rfl (zla_i (zla_i (zla_r zla_0))) (zls_i (zls_i (zls_r zls_0))) (by decide) (fun X hxl hxg hxf hxt hxr hxn => ?_)
  have Kret : ∀ (y0 : Int32), y0 = z0 → zRe X g m (some (.int y0)) := by
    intro y0 e; cases e; exact ⟨hxf, hxr, hxn⟩
  subst hxl
  show zG X cJ5_checkIndex 3 "jdk/internal/util/Preconditions" "checkIndex" 1 20 0 [(0, .int a0), (1, .int a1), (2, va_rf a2)] [] g m
  unfold f_J5_checkIndex at h
  refine g_iload_n dJ5_checkIndex_0 0 rfl ?_
  obtain ⟨o1, h1, hl1, hr1⟩ := zEx_e h
  have K1 : o1 = .inr () → zG X cJ5_checkIndex 3 "jdk/internal/util/Preconditions" "checkIndex" 1 20 9 [(0, .int a0), (1, .int a1), (2, va_rf a2)] [] g m := by
    intro e
    have h := hr1 _ e
    refine g_aload_n dJ5_checkIndex_9 2 rfl ?_
    refine g_iload_n dJ5_checkIndex_10 0 rfl ?_
    refine g_iload_n dJ5_checkIndex_11 1 rfl ?_
    cases h
  have h := h1
  refine g_if_lt 9 dJ5_checkIndex_1 (by decide) (fun c => ?_) (fun c => ?_)
  · have h := zite_p h c
    refine zG.sub [0, 1, 2] rfl ?_
    have e := Option.some.inj h
    exact K1 e.symm
  · have h := zite_n h c
    refine g_iload_n dJ5_checkIndex_4 0 rfl ?_
    refine g_iload_n dJ5_checkIndex_5 1 rfl ?_
    refine g_icmp_lt 16 dJ5_checkIndex_6 (by decide) (fun c => ?_) (fun c => ?_)
    · have h := zite_p h c
      refine g_iload_n dJ5_checkIndex_16 0 rfl ?_
      refine g_iret dJ5_checkIndex_17 hxt ?_
      have e := Option.some.inj h
      have e := hl1 _ e.symm
      exact Kret _ e
    · have h := zite_n h c
      refine zG.sub [0, 1, 2] rfl ?_
      have e := Option.some.inj h
      exact K1 e.symm
/-! java/util/Objects.checkIndex -/
def f_J13_checkIndex (a0 : Int32) (a1 : Int32) : Option (Int32) :=
(f_J5_checkIndex a0 a1 none).bind fun v1 =>
some (v1)
theorem hy_J13_checkIndex : zHy yJ13_checkIndex 2 := ⟨by decide, by decide, by decide +kernel⟩
set_option maxHeartbeats 4000000 in
theorem ok_J13_checkIndex (l : Launch) (g : zGd) (m : zMm) (a0 : Int32) (a1 : Int32) (z0 : Int32) (h : f_J13_checkIndex a0 a1 = some z0) : zCT l yJ13_checkIndex cJ13_checkIndex 2 (some .int) 2 42 g m [.int a0, .int a1] (some (.int z0)) g m := by
  refine zCT.of (own := "java/util/Objects") (mn := "checkIndex") (by decide +kernel) rfl rfl (zla_i (zla_i zla_0)) (zls_i (zls_i zls_0)) (by decide) (fun X hxl hxg hxf hxt hxr hxn => ?_)
  have Kret : ∀ (y0 : Int32), y0 = z0 → zRe X g m (some (.int y0)) := by
    intro y0 e; cases e; exact ⟨hxf, hxr, hxn⟩
  subst hxl
  show zG X cJ13_checkIndex 2 "java/util/Objects" "checkIndex" 2 42 0 [(0, .int a0), (1, .int a1)] [] g m
  unfold f_J13_checkIndex at h
  refine g_iload_n dJ13_checkIndex_0 0 rfl ?_
  refine g_iload_n dJ13_checkIndex_1 1 rfl ?_
  refine g_null dJ13_checkIndex_2 ?_
  refine g_cSRv (rv := fun x : Int32 => Value.int x) [.int a0, .int a1, va_rf none] (fun x0 e0 => ok_J5_checkIndex (xl X) g m a0 a1 none x0 e0) (lw_S q708 q459 q134 q460) hy_J5_checkIndex rfl ⟨by decide, by decide⟩ rfl zc_0 (by decide) dJ13_checkIndex_3 h (fun v1 h => ?_)
  refine g_iret dJ13_checkIndex_6 hxt ?_
  have e := Option.some.inj h
  exact Kret _ e
/-! java/lang/Number.<init> -/
def f_J14_init (g : zGd) (m : zMm) (a0 : Option Nat) : Option (Unit) :=
zob a0 (some (()))
theorem hy_J14_init : zHy yJ14_init 0 := ⟨by decide, by decide, by decide +kernel⟩
set_option maxHeartbeats 4000000 in
theorem ok_J14_init (l : Launch) (g : zGd) (m : zMm) (a0 : Option Nat) (z0 : Unit) (h : f_J14_init g m a0 = some z0) : zCT l yJ14_init cJ14_init 1 none 1 20 g m [va_rf a0] none g m := by
  refine zCT.of (own := "java/lang/Number") (mn := "<init>") (by decide +kernel) rfl rfl (zla_r zla_0) (zls_r zls_0) (by decide) (fun X hxl hxg hxf hxt hxr hxn => ?_)
  have Kret : ∀ (y0 : Unit), y0 = z0 → zRe X g m none := by
    intro y0 e; exact ⟨hxf, hxr, hxn⟩
  subst hxl
  show zG X cJ14_init 1 "java/lang/Number" "<init>" 1 20 0 [(0, va_rf a0)] [] g m
  unfold f_J14_init at h
  refine g_aload_n dJ14_init_0 0 rfl ?_
  obtain ⟨hs, h⟩ := zob_e h
  refine g_oinit q832 q164 q165 hs zc_0 (by decide) (by decide) dJ14_init_1 ?_
  refine g_vret dJ14_init_4 hxt ?_
  have e := Option.some.inj h
  exact Kret _ e
/-! java/lang/Integer.<init> -/
def f_J15_init (g : zGd) (m : zMm) (a0 : Option Nat) (a1 : Int32) : Option (zMm) :=
zob a0 ((f_J14_init g m a0).bind fun _ =>
(zpi g m 19 0 a0 a1).bind fun m1 =>
some (m1))
theorem hy_J15_init : zHy yJ15_init 1 := ⟨by decide, by decide, by decide +kernel⟩
set_option maxHeartbeats 4000000 in
theorem ok_J15_init (l : Launch) (g : zGd) (m : zMm) (a0 : Option Nat) (a1 : Int32) (m0 : zMm) (h : f_J15_init g m a0 a1 = some m0) : zCT l yJ15_init cJ15_init 2 none 2 40 g m [va_rf a0, .int a1] none g m0 := by
  refine zCT.of (own := "java/lang/Integer") (mn := "<init>") (by decide +kernel) rfl rfl (zla_r (zla_i zla_0)) (zls_r (zls_i zls_0)) (by decide) (fun X hxl hxg hxf hxt hxr hxn => ?_)
  have Kret : ∀ (y0 : zMm), y0 = m0 → zRe X g y0 none := by
    intro y0 e; cases e; exact ⟨hxf, hxr, hxn⟩
  subst hxl
  show zG X cJ15_init 2 "java/lang/Integer" "<init>" 2 40 0 [(0, va_rf a0), (1, .int a1)] [] g m
  unfold f_J15_init at h
  refine g_aload_n dJ15_init_0 0 rfl ?_
  obtain ⟨hs, h⟩ := zob_e h
  refine g_cIRn [] (fun x0 e0 => ok_J14_init (xl X) g m a0 x0 e0) (lw_meth q831) q154 q829 q830 rfl hy_J14_init rfl ⟨by decide, by decide⟩ rfl zc_0 (by decide) hs dJ15_init_1 h (fun _ h => ?_)
  refine g_aload_n dJ15_init_4 0 rfl ?_
  refine g_iload_n dJ15_init_5 1 rfl ?_
  refine gp_iF zpd_19_0 q833 (fun _ h9 => h9) rfl rfl dJ15_init_6 h (fun m1 h => ?_)
  refine g_vret dJ15_init_9 hxt ?_
  have e := Option.some.inj h
  exact Kret _ e
/-! java/lang/Integer.valueOf -/
def f_J15_valueOf (g : zGd) (m : zMm) (a0 : Int32) : Option (Option Nat × zGd × zMm) :=
zEx (σ := Unit) (if a0 < (-128 : Int32) then (some (.inr ()))
else (if (127 : Int32) < a0 then (some (.inr ()))
else ((zaldr 110 g m (zS g 4) (a0 + (128 : Int32))).bind fun r2 =>
some (.inl ((r2, g, m)))))) fun _ =>
zlt (znewo g m 19) fun (g3, m4) =>
zlt (some (zZ g)) fun r5 =>
zob r5 ((f_J15_init g3 m4 r5 a0).bind fun m6 =>
some ((r5, g3, m6)))
theorem hy_J15_valueOf : zHy yJ15_valueOf 1 := ⟨by decide, by decide, by decide +kernel⟩
set_option maxHeartbeats 4000000 in
theorem ok_J15_valueOf (l : Launch) (g : zGd) (m : zMm) (a0 : Int32) (z0 : Option Nat) (g0 : zGd) (m0 : zMm) (h : f_J15_valueOf g m a0 = some (z0, g0, m0)) : zCT l yJ15_valueOf cJ15_valueOf 1 (some (.object "java/lang/Integer")) 3 61 g m [.int a0] (some (va_rf z0)) g0 m0 := by
  refine zCT.of (own := "java/lang/Integer") (mn := "valueOf") (by decide +kernel) rfl rfl (zla_i zla_0) (zls_i zls_0) (by decide) (fun X hxl hxg hxf hxt hxr hxn => ?_)
  have Kret : ∀ (y0 : Option Nat) (y1 : zGd) (y2 : zMm), (y0, y1, y2) = (z0, g0, m0) → zRe X y1 y2 (some (va_rf y0)) := by
    intro y0 y1 y2 e; cases e; exact ⟨hxf, hxr, hxn⟩
  subst hxl
  show zG X cJ15_valueOf 1 "java/lang/Integer" "valueOf" 3 61 0 [(0, .int a0)] [] g m
  unfold f_J15_valueOf at h
  refine g_iload_n dJ15_valueOf_0 0 rfl ?_
  refine g_bipush (v := (-128 : Int32)) dJ15_valueOf_1 (by decide) ?_
  obtain ⟨o1, h1, hl1, hr1⟩ := zEx_e h
  have K1 : o1 = .inr () → zG X cJ15_valueOf 1 "java/lang/Integer" "valueOf" 3 61 23 [(0, .int a0)] [] g m := by
    intro e
    have h := hr1 _ e
    refine gn_new znd_19 q824 dJ15_valueOf_23 h (fun g3 m4 h => ?_)
    refine g_letr h (fun r5 h => ?_)
    refine g_dup dJ15_valueOf_26 (zcat_r _) ?_
    refine g_iload_n dJ15_valueOf_27 0 rfl ?_
    obtain ⟨hs, h⟩ := zob_e h
    refine g_cIMn [.int a0] (fun m0 e0 => ok_J15_init (xl X) g3 m4 r5 a0 m0 e0) (lw_meth q828) q155 q826 q827 rfl hy_J15_init rfl ⟨by decide, by decide⟩ rfl (zc_r zc_0) (by decide) hs dJ15_valueOf_28 h (fun m6 h => ?_)
    refine g_aret dJ15_valueOf_31 hxt (by first | exact Or.inl ⟨_, rfl⟩ | exact Or.inr ⟨_, rfl⟩) ?_
    have e := Option.some.inj h
    exact Kret _ _ _ e
  have h := h1
  refine g_icmp_lt 23 dJ15_valueOf_3 (by decide) (fun c => ?_) (fun c => ?_)
  · have h := zite_p h c
    refine zG.sub [0] rfl ?_
    have e := Option.some.inj h
    exact K1 e.symm
  · have h := zite_n h c
    refine g_iload_n dJ15_valueOf_6 0 rfl ?_
    refine g_getsi (List.mem_of_getElem? (i := 0) rfl) q820 (fun _ h9 => h9) dJ15_valueOf_7 ?_
    refine g_icmp_gt 23 dJ15_valueOf_10 (by decide) (fun c => ?_) (fun c => ?_)
    · have h := zite_p h c
      refine zG.sub [0] rfl ?_
      have e := Option.some.inj h
      exact K1 e.symm
    · have h := zite_n h c
      refine g_gets (List.mem_of_getElem? (i := 4) rfl) q822 (fun _ h9 => h9) dJ15_valueOf_13 ?_
      refine g_iload_n dJ15_valueOf_16 0 rfl ?_
      refine g_sipush (v := (128 : Int32)) dJ15_valueOf_17 (by decide) ?_
      refine g_iadd dJ15_valueOf_20 ?_
      refine g_aald 9 rfl rfl (by decide)  dJ15_valueOf_21 h (fun r2 h => ?_)
      refine g_aret dJ15_valueOf_22 hxt (by first | exact Or.inl ⟨_, rfl⟩ | exact Or.inr ⟨_, rfl⟩) ?_
      have e := Option.some.inj h
      have e := hl1 _ e.symm
      exact Kret _ _ _ e
/-! java/lang/Integer.intValue -/
def f_J15_intValue (g : zGd) (m : zMm) (a0 : Option Nat) : Option (Int32) :=
(zgi g m 19 0 a0).bind fun v1 =>
some (v1)
theorem hy_J15_intValue : zHy yJ15_intValue 0 := ⟨by decide, by decide, by decide +kernel⟩
set_option maxHeartbeats 4000000 in
theorem ok_J15_intValue (l : Launch) (g : zGd) (m : zMm) (a0 : Option Nat) (z0 : Int32) (h : f_J15_intValue g m a0 = some z0) : zCT l yJ15_intValue cJ15_intValue 1 (some .int) 1 20 g m [va_rf a0] (some (.int z0)) g m := by
  refine zCT.of (own := "java/lang/Integer") (mn := "intValue") (by decide +kernel) rfl rfl (zla_r zla_0) (zls_r zls_0) (by decide) (fun X hxl hxg hxf hxt hxr hxn => ?_)
  have Kret : ∀ (y0 : Int32), y0 = z0 → zRe X g m (some (.int y0)) := by
    intro y0 e; cases e; exact ⟨hxf, hxr, hxn⟩
  subst hxl
  show zG X cJ15_intValue 1 "java/lang/Integer" "intValue" 1 20 0 [(0, va_rf a0)] [] g m
  unfold f_J15_intValue at h
  refine g_aload_n dJ15_intValue_0 0 rfl ?_
  refine gf_i zfd_19_0 q833  (fun _ h9 => h9) dJ15_intValue_1 h (fun v1 h => ?_)
  refine g_iret dJ15_intValue_4 hxt ?_
  have e := Option.some.inj h
  exact Kret _ e
/-! java/lang/Integer.bitCount -/
def f_J15_bitCount (a0 : Int32) : Option (Int32) :=
zlt (a0 - ((zushr a0 (1 : Int32)) &&& (1431655765 : Int32))) fun v1 =>
zlt ((v1 &&& (858993459 : Int32)) + ((zushr v1 (2 : Int32)) &&& (858993459 : Int32))) fun v2 =>
zlt ((v2 + (zushr v2 (4 : Int32))) &&& (252645135 : Int32)) fun v3 =>
zlt (v3 + (zushr v3 (8 : Int32))) fun v4 =>
zlt (v4 + (zushr v4 (16 : Int32))) fun v5 =>
some ((v5 &&& (63 : Int32)))
theorem hy_J15_bitCount : zHy yJ15_bitCount 1 := ⟨by decide, by decide, by decide +kernel⟩
set_option maxHeartbeats 4000000 in
theorem ok_J15_bitCount (l : Launch) (g : zGd) (m : zMm) (a0 : Int32) (z0 : Int32) (h : f_J15_bitCount a0 = some z0) : zCT l yJ15_bitCount cJ15_bitCount 1 (some .int) 1 20 g m [.int a0] (some (.int z0)) g m := by
  refine zCT.of (own := "java/lang/Integer") (mn := "bitCount") (by decide +kernel) rfl rfl (zla_i zla_0) (zls_i zls_0) (by decide) (fun X hxl hxg hxf hxt hxr hxn => ?_)
  have Kret : ∀ (y0 : Int32), y0 = z0 → zRe X g m (some (.int y0)) := by
    intro y0 e; cases e; exact ⟨hxf, hxr, hxn⟩
  subst hxl
  show zG X cJ15_bitCount 1 "java/lang/Integer" "bitCount" 1 20 0 [(0, .int a0)] [] g m
  unfold f_J15_bitCount at h
  refine g_iload_n dJ15_bitCount_0 0 rfl ?_
  refine g_iload_n dJ15_bitCount_1 0 rfl ?_
  refine g_iconst (v := (1 : Int32)) dJ15_bitCount_2 (by decide) ?_
  refine g_iushr dJ15_bitCount_3 ?_
  refine g_ldcw (v := (1431655765 : Int32)) q1328 dJ15_bitCount_4 ?_
  refine g_iand dJ15_bitCount_7 ?_
  refine g_isub dJ15_bitCount_8 ?_
  refine g_leti h (fun v1 h => ?_)
  refine g_istore_n [(0, .int v1)] dJ15_bitCount_9 (by decide) (zf_i zf_0) rfl ?_
  refine g_iload_n dJ15_bitCount_10 0 rfl ?_
  refine g_ldcw (v := (858993459 : Int32)) q1329 dJ15_bitCount_11 ?_
  refine g_iand dJ15_bitCount_14 ?_
  refine g_iload_n dJ15_bitCount_15 0 rfl ?_
  refine g_iconst (v := (2 : Int32)) dJ15_bitCount_16 (by decide) ?_
  refine g_iushr dJ15_bitCount_17 ?_
  refine g_ldcw (v := (858993459 : Int32)) q1329 dJ15_bitCount_18 ?_
  refine g_iand dJ15_bitCount_21 ?_
  refine g_iadd dJ15_bitCount_22 ?_
  refine g_leti h (fun v2 h => ?_)
  refine g_istore_n [(0, .int v2)] dJ15_bitCount_23 (by decide) (zf_i zf_0) rfl ?_
  refine g_iload_n dJ15_bitCount_24 0 rfl ?_
  refine g_iload_n dJ15_bitCount_25 0 rfl ?_
  refine g_iconst (v := (4 : Int32)) dJ15_bitCount_26 (by decide) ?_
  refine g_iushr dJ15_bitCount_27 ?_
  refine g_iadd dJ15_bitCount_28 ?_
  refine g_ldcw (v := (252645135 : Int32)) q1330 dJ15_bitCount_29 ?_
  refine g_iand dJ15_bitCount_32 ?_
  refine g_leti h (fun v3 h => ?_)
  refine g_istore_n [(0, .int v3)] dJ15_bitCount_33 (by decide) (zf_i zf_0) rfl ?_
  refine g_iload_n dJ15_bitCount_34 0 rfl ?_
  refine g_iload_n dJ15_bitCount_35 0 rfl ?_
  refine g_bipush (v := (8 : Int32)) dJ15_bitCount_36 (by decide) ?_
  refine g_iushr dJ15_bitCount_38 ?_
  refine g_iadd dJ15_bitCount_39 ?_
  refine g_leti h (fun v4 h => ?_)
  refine g_istore_n [(0, .int v4)] dJ15_bitCount_40 (by decide) (zf_i zf_0) rfl ?_
  refine g_iload_n dJ15_bitCount_41 0 rfl ?_
  refine g_iload_n dJ15_bitCount_42 0 rfl ?_
  refine g_bipush (v := (16 : Int32)) dJ15_bitCount_43 (by decide) ?_
  refine g_iushr dJ15_bitCount_45 ?_
  refine g_iadd dJ15_bitCount_46 ?_
  refine g_leti h (fun v5 h => ?_)
  refine g_istore_n [(0, .int v5)] dJ15_bitCount_47 (by decide) (zf_i zf_0) rfl ?_
  refine g_iload_n dJ15_bitCount_48 0 rfl ?_
  refine g_bipush (v := (63 : Int32)) dJ15_bitCount_49 (by decide) ?_
  refine g_iand dJ15_bitCount_51 ?_
  refine g_iret dJ15_bitCount_52 hxt ?_
  have e := Option.some.inj h
  exact Kret _ e
/-! java/util/ArrayList.<init> -/
def f_J2_init (g : zGd) (m : zMm) (a0 : Option Nat) : Option (zMm) :=
zob a0 ((f_J1_init g m a0).bind fun m1 =>
(zpr g m1 17 1 a0 (zS g 3)).bind fun m2 =>
some (m2))
theorem hy_J2_init : zHy yJ2_init 0 := ⟨by decide, by decide, by decide +kernel⟩
set_option maxHeartbeats 4000000 in
theorem ok_J2_init (l : Launch) (g : zGd) (m : zMm) (a0 : Option Nat) (m0 : zMm) (h : f_J2_init g m a0 = some m0) : zCT l yJ2_init cJ2_init 1 none 3 60 g m [va_rf a0] none g m0 := by
  refine zCT.of (own := "java/util/ArrayList") (mn := "<init>") (by decide +kernel) rfl rfl (zla_r zla_0) (zls_r zls_0) (by decide) (fun X hxl hxg hxf hxt hxr hxn => ?_)
  have Kret : ∀ (y0 : zMm), y0 = m0 → zRe X g y0 none := by
    intro y0 e; cases e; exact ⟨hxf, hxr, hxn⟩
  subst hxl
  show zG X cJ2_init 1 "java/util/ArrayList" "<init>" 3 60 0 [(0, va_rf a0)] [] g m
  unfold f_J2_init at h
  refine g_aload_n dJ2_init_0 0 rfl ?_
  obtain ⟨hs, h⟩ := zob_e h
  refine g_cIMn [] (fun m0 e0 => ok_J1_init (xl X) g m a0 m0 e0) (lw_meth q386) q130 q384 q385 rfl hy_J1_init rfl ⟨by decide, by decide⟩ rfl zc_0 (by decide) hs dJ2_init_1 h (fun m1 h => ?_)
  refine g_aload_n dJ2_init_4 0 rfl ?_
  refine g_gets (List.mem_of_getElem? (i := 3) rfl) q391 (fun _ h9 => h9) dJ2_init_5 ?_
  refine gp_r zpd_17_1 q393 (fun _ h9 => h9) dJ2_init_8 h (fun m2 h => ?_)
  refine g_vret dJ2_init_11 hxt ?_
  have e := Option.some.inj h
  exact Kret _ e
/-! java/util/ArrayList.grow -/
def f_J2_grow_2 (g : zGd) (m : zMm) (a0 : Option Nat) (a1 : Int32) : Option (Option Nat × zGd × zMm) :=
(zgr g m 17 1 a0).bind fun r1 =>
(zalen g r1).bind fun v2 =>
zEx (σ := Unit) (if 0 < v2 then (some (.inr ()))
else ((zgr g m 17 1 a0).bind fun r4 =>
if r4 = (zS g 3) then ((f_J7_max (10 : Int32) a1).bind fun v5 =>
(znewa 105 g m v5).bind fun (g6, m7) =>
zlt (some (zZ g)) fun r8 =>
(zpr g6 m7 17 1 a0 r8).bind fun m9 =>
some (.inl ((r8, g6, m9))))
else (some (.inr ())))) fun _ =>
(f_J11_newLength g m v2 (a1 - v2) (zshr v2 (1 : Int32))).bind fun (v10, g11, m12) =>
(zgr g11 m12 17 1 a0).bind fun r13 =>
(f_J12_copyOf g11 m12 r13 v10).bind fun (r14, g15, m16) =>
(zpr g15 m16 17 1 a0 r14).bind fun m17 =>
some ((r14, g15, m17))
theorem hy_J2_grow_2 : zHy yJ2_grow_2 1 := ⟨by decide, by decide, by decide +kernel⟩
set_option maxHeartbeats 4000000 in
theorem ok_J2_grow_2 (l : Launch) (g : zGd) (m : zMm) (a0 : Option Nat) (a1 : Int32) (z0 : Option Nat) (g0 : zGd) (m0 : zMm) (h : f_J2_grow_2 g m a0 a1 = some (z0, g0, m0)) : zCT l yJ2_grow_2 cJ2_grow_2 4 (some (.array (.object "java/lang/Object"))) 4 85 g m [va_rf a0, .int a1] (some (va_rf z0)) g0 m0 := by
  refine zCT.of (own := "java/util/ArrayList") (mn := "grow") (by decide +kernel) rfl rfl (zla_r (zla_i zla_0)) (zls_r (zls_i zls_0)) (by decide) (fun X hxl hxg hxf hxt hxr hxn => ?_)
  have Kret : ∀ (y0 : Option Nat) (y1 : zGd) (y2 : zMm), (y0, y1, y2) = (z0, g0, m0) → zRe X y1 y2 (some (va_rf y0)) := by
    intro y0 y1 y2 e; cases e; exact ⟨hxf, hxr, hxn⟩
  subst hxl
  show zG X cJ2_grow_2 4 "java/util/ArrayList" "grow" 4 85 0 [(0, va_rf a0), (1, .int a1)] [] g m
  unfold f_J2_grow_2 at h
  refine g_aload_n dJ2_grow_2_0 0 rfl ?_
  refine gf_r zfd_17_1 q393  (fun _ h9 => h9) dJ2_grow_2_1 h (fun r1 h => ?_)
  refine g_alen dJ2_grow_2_4 h (fun v2 h => ?_)
  refine g_istore_n [(2, .int v2), (0, va_rf a0), (1, .int a1)] dJ2_grow_2_5 (by decide) (zf_r (zf_i zf_0)) rfl ?_
  refine g_iload_n dJ2_grow_2_6 0 rfl ?_
  obtain ⟨o3, h1, hl3, hr3⟩ := zEx_e h
  have K3 : o3 = .inr () → zG X cJ2_grow_2 4 "java/util/ArrayList" "grow" 4 85 20 [(0, va_rf a0), (1, .int a1), (2, .int v2)] [] g m := by
    intro e
    have h := hr3 _ e
    refine g_iload_n dJ2_grow_2_20 2 rfl ?_
    refine g_iload_n dJ2_grow_2_21 1 rfl ?_
    refine g_iload_n dJ2_grow_2_22 2 rfl ?_
    refine g_isub dJ2_grow_2_23 ?_
    refine g_iload_n dJ2_grow_2_24 2 rfl ?_
    refine g_iconst (v := (1 : Int32)) dJ2_grow_2_25 (by decide) ?_
    refine g_ishr dJ2_grow_2_26 ?_
    refine g_cSAv (rv := fun x : Int32 => Value.int x) [.int v2, .int (a1 - v2), .int (zshr v2 (1 : Int32))] (fun x0 g0 m0 e0 => ok_J11_newLength (xl X) g m v2 (a1 - v2) (zshr v2 (1 : Int32)) x0 g0 m0 e0) (lw_S q651 q652 q145 q653) hy_J11_newLength rfl ⟨by decide, by decide⟩ rfl zc_0 (by decide) dJ2_grow_2_27 h (fun v10 g11 m12 h => ?_)
    refine g_istore_n [(3, .int v10), (0, va_rf a0), (1, .int a1), (2, .int v2)] dJ2_grow_2_30 (by decide) (zf_r (zf_i (zf_i zf_0))) rfl ?_
    refine g_aload_n dJ2_grow_2_31 1 rfl ?_
    refine g_aload_n dJ2_grow_2_32 1 rfl ?_
    refine gf_r zfd_17_1 q393  (fun _ h9 => h9) dJ2_grow_2_33 h (fun r13 h => ?_)
    refine g_iload_n dJ2_grow_2_36 0 rfl ?_
    refine g_cSAv (rv := fun x : Option Nat => va_rf x) [va_rf r13, .int v10] (fun x0 g0 m0 e0 => ok_J12_copyOf (xl X) g11 m12 r13 v10 x0 g0 m0 e0) (lw_S q661 q662 q146 q663) hy_J12_copyOf rfl ⟨by decide, by decide⟩ rfl (zc_r zc_0) (by decide) dJ2_grow_2_37 h (fun r14 g15 m16 h => ?_)
    refine g_dup_x1 dJ2_grow_2_40 (zcat_r _) (zcat_r _) ?_
    refine gp_r zpd_17_1 q393 (fun _ h9 => h9) dJ2_grow_2_41 h (fun m17 h => ?_)
    refine g_aret dJ2_grow_2_44 hxt (by first | exact Or.inl ⟨_, rfl⟩ | exact Or.inr ⟨_, rfl⟩) ?_
    have e := Option.some.inj h
    exact Kret _ _ _ e
  have h := h1
  refine g_if_gt 20 dJ2_grow_2_7 (by decide) (fun c => ?_) (fun c => ?_)
  · have h := zite_p h c
    refine zG.sub [1, 2, 0] rfl ?_
    have e := Option.some.inj h
    exact K3 e.symm
  · have h := zite_n h c
    refine g_aload_n dJ2_grow_2_10 1 rfl ?_
    refine gf_r zfd_17_1 q393  (fun _ h9 => h9) dJ2_grow_2_11 h (fun r4 h => ?_)
    refine g_gets (List.mem_of_getElem? (i := 3) rfl) q391 (fun _ h9 => h9) dJ2_grow_2_14 ?_
    refine g_acmp_eq 45 dJ2_grow_2_17 (by decide) (fun c => ?_) (fun c => ?_)
    · have h := zite_p h c
      refine g_aload_n dJ2_grow_2_45 1 rfl ?_
      refine g_bipush (v := (10 : Int32)) dJ2_grow_2_46 (by decide) ?_
      refine g_iload_n dJ2_grow_2_48 2 rfl ?_
      refine g_cSRv (rv := fun x : Int32 => Value.int x) [.int (10 : Int32), .int a1] (fun x0 e0 => ok_J7_max (xl X) g m (10 : Int32) a1 x0 e0) (lw_S q695 q655 q136 q656) hy_J7_max rfl ⟨by decide, by decide⟩ rfl (zc_r zc_0) (by decide) dJ2_grow_2_49 h (fun v5 h => ?_)
      refine g_anew 4 rfl (by decide) q696 q691 dJ2_grow_2_52 h (fun g6 m7 h => ?_)
      refine g_letr h (fun r8 h => ?_)
      refine g_dup_x1 dJ2_grow_2_55 (zcat_r _) (zcat_r _) ?_
      refine gp_r zpd_17_1 q393 (fun _ h9 => h9) dJ2_grow_2_56 h (fun m9 h => ?_)
      refine g_aret dJ2_grow_2_59 hxt (by first | exact Or.inl ⟨_, rfl⟩ | exact Or.inr ⟨_, rfl⟩) ?_
      have e := Option.some.inj h
      have e := hl3 _ e.symm
      exact Kret _ _ _ e
    · have h := zite_n h c
      refine zG.sub [1, 2, 0] rfl ?_
      have e := Option.some.inj h
      exact K3 e.symm
/-! java/util/ArrayList.grow -/
def f_J2_grow (g : zGd) (m : zMm) (a0 : Option Nat) : Option (Option Nat × zGd × zMm) :=
(zgi g m 17 2 a0).bind fun v1 =>
(zrc g 17 a0 (f_J2_grow_2 g m a0 (v1 + (1 : Int32)))).bind fun (r2, g3, m4) =>
some ((r2, g3, m4))
theorem hy_J2_grow : zHy yJ2_grow 0 := ⟨by decide, by decide, by decide +kernel⟩
set_option maxHeartbeats 4000000 in
theorem ok_J2_grow (l : Launch) (g : zGd) (m : zMm) (a0 : Option Nat) (z0 : Option Nat) (g0 : zGd) (m0 : zMm) (h : f_J2_grow g m a0 = some (z0, g0, m0)) : zCT l yJ2_grow cJ2_grow 1 (some (.array (.object "java/lang/Object"))) 5 108 g m [va_rf a0] (some (va_rf z0)) g0 m0 := by
  refine zCT.of (own := "java/util/ArrayList") (mn := "grow") (by decide +kernel) rfl rfl (zla_r zla_0) (zls_r zls_0) (by decide) (fun X hxl hxg hxf hxt hxr hxn => ?_)
  have Kret : ∀ (y0 : Option Nat) (y1 : zGd) (y2 : zMm), (y0, y1, y2) = (z0, g0, m0) → zRe X y1 y2 (some (va_rf y0)) := by
    intro y0 y1 y2 e; cases e; exact ⟨hxf, hxr, hxn⟩
  subst hxl
  show zG X cJ2_grow 1 "java/util/ArrayList" "grow" 5 108 0 [(0, va_rf a0)] [] g m
  unfold f_J2_grow at h
  refine g_aload_n dJ2_grow_0 0 rfl ?_
  refine g_aload_n dJ2_grow_1 0 rfl ?_
  refine gf_i zfd_17_2 q394  (fun _ h9 => h9) dJ2_grow_2 h (fun v1 h => ?_)
  refine g_iconst (v := (1 : Int32)) dJ2_grow_5 (by decide) ?_
  refine g_iadd dJ2_grow_6 ?_
  refine g_cVAv (rv := fun x : Option Nat => va_rf x) [.int (v1 + (1 : Int32))] (fun x0 g0 m0 e0 => ok_J2_grow_2 (xl X) g m a0 (v1 + (1 : Int32)) x0 g0 m0 e0) zc17 (by decide) (lw_V q647 q649 qs17 q131 q650) rfl hy_J2_grow_2 rfl ⟨by decide, by decide⟩ rfl zc_0 (by decide) dJ2_grow_7 h (fun r2 g3 m4 h => ?_)
  refine g_aret dJ2_grow_10 hxt (by first | exact Or.inl ⟨_, rfl⟩ | exact Or.inr ⟨_, rfl⟩) ?_
  have e := Option.some.inj h
  exact Kret _ _ _ e
/-! java/util/ArrayList.add -/
def f_J2_add_2 (g : zGd) (m : zMm) (a0 : Option Nat) (a1 : Option Nat) (a2 : Option Nat) (a3 : Int32) : Option (zGd × zMm) :=
(zalen g a2).bind fun v1 =>
((if a3 = v1 then ((zrc g 17 a0 (f_J2_grow g m a0)).bind fun (r6, g7, m8) =>
some ((r6, g7, m8)))
else (some ((a2, g, m))) : Option (Option Nat × zGd × zMm))).bind fun (r3, g4, m5) =>
(zastr 4 g4 m5 r3 a3 a1).bind fun m9 =>
(zpi g4 m9 17 2 a0 (a3 + (1 : Int32))).bind fun m10 =>
some ((g4, m10))
theorem hy_J2_add_2 : zHy yJ2_add_2 3 := ⟨by decide, by decide, by decide +kernel⟩
set_option maxHeartbeats 4000000 in
theorem ok_J2_add_2 (l : Launch) (g : zGd) (m : zMm) (a0 : Option Nat) (a1 : Option Nat) (a2 : Option Nat) (a3 : Int32) (g0 : zGd) (m0 : zMm) (h : f_J2_add_2 g m a0 a1 a2 a3 = some (g0, m0)) : zCT l yJ2_add_2 cJ2_add_2 4 none 6 128 g m [va_rf a0, va_rf a1, va_rf a2, .int a3] none g0 m0 := by
  refine zCT.of (own := "java/util/ArrayList") (mn := "add") (by decide +kernel) rfl rfl (zla_r (zla_r (zla_r (zla_i zla_0)))) (zls_r (zls_r (zls_r (zls_i zls_0)))) (by decide) (fun X hxl hxg hxf hxt hxr hxn => ?_)
  have Kret : ∀ (y0 : zGd) (y1 : zMm), (y0, y1) = (g0, m0) → zRe X y0 y1 none := by
    intro y0 y1 e; cases e; exact ⟨hxf, hxr, hxn⟩
  subst hxl
  show zG X cJ2_add_2 4 "java/util/ArrayList" "add" 6 128 0 [(0, va_rf a0), (1, va_rf a1), (2, va_rf a2), (3, .int a3)] [] g m
  unfold f_J2_add_2 at h
  refine g_iload_n dJ2_add_2_0 3 rfl ?_
  refine g_aload_n dJ2_add_2_1 2 rfl ?_
  refine g_alen dJ2_add_2_2 h (fun v1 h => ?_)
  obtain ⟨o2, h1, h2⟩ := zB_e h
  have K2 : ∀ (r3 : Option Nat) (g4 : zGd) (m5 : zMm), o2 = (r3, g4, m5) → zG X cJ2_add_2 4 "java/util/ArrayList" "add" 6 128 11 [(0, va_rf a0), (1, va_rf a1), (2, va_rf r3), (3, .int a3)] [] g4 m5 := by
    intro r3 g4 m5 e
    rw [e] at h2
    have h := h2
    refine g_aload_n dJ2_add_2_11 2 rfl ?_
    refine g_iload_n dJ2_add_2_12 3 rfl ?_
    refine g_aload_n dJ2_add_2_13 1 rfl ?_
    refine g_aast 4 rfl (by decide) dJ2_add_2_14 h (fun m9 h => ?_)
    refine g_aload_n dJ2_add_2_15 0 rfl ?_
    refine g_iload_n dJ2_add_2_16 3 rfl ?_
    refine g_iconst (v := (1 : Int32)) dJ2_add_2_17 (by decide) ?_
    refine g_iadd dJ2_add_2_18 ?_
    refine gp_i zpd_17_2 q394 (fun _ h9 => h9) dJ2_add_2_19 h (fun m10 h => ?_)
    refine g_vret dJ2_add_2_22 hxt ?_
    have e := Option.some.inj h
    exact Kret _ _ e
  have h := h1
  refine g_icmp_ne 11 dJ2_add_2_3 (by decide) (fun c => ?_) (fun c => ?_)
  · have h := zite_n h c
    refine zG.sub [0, 1, 2, 3] rfl ?_
    have e := Option.some.inj h
    exact K2 _ _ _ e.symm
  · have h := zite_p h c
    refine g_aload_n dJ2_add_2_6 0 rfl ?_
    refine g_cVAv (rv := fun x : Option Nat => va_rf x) [] (fun x0 g0 m0 e0 => ok_J2_grow (xl X) g m a0 x0 g0 m0 e0) zc17 (by decide) (lw_V q643 q645 qs16 q131 q646) rfl hy_J2_grow rfl ⟨by decide, by decide⟩ rfl zc_0 (by decide) dJ2_add_2_7 h (fun r6 g7 m8 h => ?_)
    refine g_astore_n [(2, va_rf r6), (0, va_rf a0), (1, va_rf a1), (3, .int a3)] dJ2_add_2_10 (by decide) (zf_r (zf_r (zf_r (zf_i zf_0)))) rfl ?_
    refine zG.sub [1, 2, 0, 3] rfl ?_
    have e := Option.some.inj h
    exact K2 _ _ _ e.symm
/-! java/util/ArrayList.add -/
def f_J2_add (g : zGd) (m : zMm) (a0 : Option Nat) (a1 : Option Nat) : Option (Int32 × zGd × zMm) :=
(zgi g m 17 0 a0).bind fun v1 =>
(zpi g m 17 0 a0 (v1 + (1 : Int32))).bind fun m2 =>
(zgr g m2 17 1 a0).bind fun r3 =>
(zgi g m2 17 2 a0).bind fun v4 =>
(zrc g 17 a0 (f_J2_add_2 g m2 a0 a1 r3 v4)).bind fun (g5, m6) =>
some (((1 : Int32), g5, m6))
theorem hy_J2_add : zHy yJ2_add 1 := ⟨by decide, by decide, by decide +kernel⟩
set_option maxHeartbeats 4000000 in
theorem ok_J2_add (l : Launch) (g : zGd) (m : zMm) (a0 : Option Nat) (a1 : Option Nat) (z0 : Int32) (g0 : zGd) (m0 : zMm) (h : f_J2_add g m a0 a1 = some (z0, g0, m0)) : zCT l yJ2_add cJ2_add 2 (some .boolean) 7 151 g m [va_rf a0, va_rf a1] (some (.int z0)) g0 m0 := by
  refine zCT.of (own := "java/util/ArrayList") (mn := "add") (by decide +kernel) rfl rfl (zla_r (zla_r zla_0)) (zls_r (zls_r zls_0)) (by decide) (fun X hxl hxg hxf hxt hxr hxn => ?_)
  have Kret : ∀ (y0 : Int32) (y1 : zGd) (y2 : zMm), (y0, y1, y2) = (z0, g0, m0) → zRe X y1 y2 (some (.int y0)) := by
    intro y0 y1 y2 e; cases e; exact ⟨hxf, hxr, hxn⟩
  subst hxl
  show zG X cJ2_add 2 "java/util/ArrayList" "add" 7 151 0 [(0, va_rf a0), (1, va_rf a1)] [] g m
  unfold f_J2_add at h
  refine g_aload_n dJ2_add_0 0 rfl ?_
  refine g_dup dJ2_add_1 (zcat_r _) ?_
  refine gf_iU q396  dJ2_add_2 h (fun v1 h => ?_)
  refine g_iconst (v := (1 : Int32)) dJ2_add_5 (by decide) ?_
  refine g_iadd dJ2_add_6 ?_
  refine gp_iU q396 dJ2_add_7 h (fun m2 h => ?_)
  refine g_aload_n dJ2_add_10 0 rfl ?_
  refine g_aload_n dJ2_add_11 1 rfl ?_
  refine g_aload_n dJ2_add_12 0 rfl ?_
  refine gf_r zfd_17_1 q393  (fun _ h9 => h9) dJ2_add_13 h (fun r3 h => ?_)
  refine g_aload_n dJ2_add_16 0 rfl ?_
  refine gf_i zfd_17_2 q394  (fun _ h9 => h9) dJ2_add_17 h (fun v4 h => ?_)
  refine g_cVAn [va_rf a1, va_rf r3, .int v4] (fun g0 m0 e0 => ok_J2_add_2 (xl X) g m2 a0 a1 r3 v4 g0 m0 e0) zc17 (by decide) (lw_V q639 q641 qs15 q131 q642) rfl hy_J2_add_2 rfl ⟨by decide, by decide⟩ rfl zc_0 (by decide) dJ2_add_20 h (fun g5 m6 h => ?_)
  refine g_iconst (v := (1 : Int32)) dJ2_add_23 (by decide) ?_
  refine g_zret dJ2_add_24 hxt rfl ?_
  have e := Option.some.inj h
  exact Kret _ _ _ e
/-! java/util/ArrayList.size -/
def f_J2_size (g : zGd) (m : zMm) (a0 : Option Nat) : Option (Int32) :=
(zgi g m 17 2 a0).bind fun v1 =>
some (v1)
theorem hy_J2_size : zHy yJ2_size 0 := ⟨by decide, by decide, by decide +kernel⟩
set_option maxHeartbeats 4000000 in
theorem ok_J2_size (l : Launch) (g : zGd) (m : zMm) (a0 : Option Nat) (z0 : Int32) (h : f_J2_size g m a0 = some z0) : zCT l yJ2_size cJ2_size 1 (some .int) 1 20 g m [va_rf a0] (some (.int z0)) g m := by
  refine zCT.of (own := "java/util/ArrayList") (mn := "size") (by decide +kernel) rfl rfl (zla_r zla_0) (zls_r zls_0) (by decide) (fun X hxl hxg hxf hxt hxr hxn => ?_)
  have Kret : ∀ (y0 : Int32), y0 = z0 → zRe X g m (some (.int y0)) := by
    intro y0 e; cases e; exact ⟨hxf, hxr, hxn⟩
  subst hxl
  show zG X cJ2_size 1 "java/util/ArrayList" "size" 1 20 0 [(0, va_rf a0)] [] g m
  unfold f_J2_size at h
  refine g_aload_n dJ2_size_0 0 rfl ?_
  refine gf_i zfd_17_2 q394  (fun _ h9 => h9) dJ2_size_1 h (fun v1 h => ?_)
  refine g_iret dJ2_size_4 hxt ?_
  have e := Option.some.inj h
  exact Kret _ e
/-! java/util/ArrayList.elementData -/
def f_J2_elementData (g : zGd) (m : zMm) (a0 : Option Nat) (a1 : Int32) : Option (Option Nat) :=
(zgr g m 17 1 a0).bind fun r1 =>
(zaldr 105 g m r1 a1).bind fun r2 =>
some (r2)
theorem hy_J2_elementData : zHy yJ2_elementData 1 := ⟨by decide, by decide, by decide +kernel⟩
set_option maxHeartbeats 4000000 in
theorem ok_J2_elementData (l : Launch) (g : zGd) (m : zMm) (a0 : Option Nat) (a1 : Int32) (z0 : Option Nat) (h : f_J2_elementData g m a0 a1 = some z0) : zCT l yJ2_elementData cJ2_elementData 2 (some (.object "java/lang/Object")) 1 20 g m [va_rf a0, .int a1] (some (va_rf z0)) g m := by
  refine zCT.of (own := "java/util/ArrayList") (mn := "elementData") (by decide +kernel) rfl rfl (zla_r (zla_i zla_0)) (zls_r (zls_i zls_0)) (by decide) (fun X hxl hxg hxf hxt hxr hxn => ?_)
  have Kret : ∀ (y0 : Option Nat), y0 = z0 → zRe X g m (some (va_rf y0)) := by
    intro y0 e; cases e; exact ⟨hxf, hxr, hxn⟩
  subst hxl
  show zG X cJ2_elementData 2 "java/util/ArrayList" "elementData" 1 20 0 [(0, va_rf a0), (1, .int a1)] [] g m
  unfold f_J2_elementData at h
  refine g_aload_n dJ2_elementData_0 0 rfl ?_
  refine gf_r zfd_17_1 q393  (fun _ h9 => h9) dJ2_elementData_1 h (fun r1 h => ?_)
  refine g_iload_n dJ2_elementData_4 1 rfl ?_
  refine g_aald 4 rfl rfl (by decide)  dJ2_elementData_5 h (fun r2 h => ?_)
  refine g_aret dJ2_elementData_6 hxt (by first | exact Or.inl ⟨_, rfl⟩ | exact Or.inr ⟨_, rfl⟩) ?_
  have e := Option.some.inj h
  exact Kret _ e
/-! java/util/ArrayList.get -/
def f_J2_get (g : zGd) (m : zMm) (a0 : Option Nat) (a1 : Int32) : Option (Option Nat) :=
(zgi g m 17 2 a0).bind fun v1 =>
(f_J13_checkIndex a1 v1).bind fun v2 =>
(zrc g 17 a0 (f_J2_elementData g m a0 a1)).bind fun r3 =>
some (r3)
theorem hy_J2_get : zHy yJ2_get 1 := ⟨by decide, by decide, by decide +kernel⟩
set_option maxHeartbeats 4000000 in
theorem ok_J2_get (l : Launch) (g : zGd) (m : zMm) (a0 : Option Nat) (a1 : Int32) (z0 : Option Nat) (h : f_J2_get g m a0 a1 = some z0) : zCT l yJ2_get cJ2_get 2 (some (.object "java/lang/Object")) 3 63 g m [va_rf a0, .int a1] (some (va_rf z0)) g m := by
  refine zCT.of (own := "java/util/ArrayList") (mn := "get") (by decide +kernel) rfl rfl (zla_r (zla_i zla_0)) (zls_r (zls_i zls_0)) (by decide) (fun X hxl hxg hxf hxt hxr hxn => ?_)
  have Kret : ∀ (y0 : Option Nat), y0 = z0 → zRe X g m (some (va_rf y0)) := by
    intro y0 e; cases e; exact ⟨hxf, hxr, hxn⟩
  subst hxl
  show zG X cJ2_get 2 "java/util/ArrayList" "get" 3 63 0 [(0, va_rf a0), (1, .int a1)] [] g m
  unfold f_J2_get at h
  refine g_iload_n dJ2_get_0 1 rfl ?_
  refine g_aload_n dJ2_get_1 0 rfl ?_
  refine gf_i zfd_17_2 q394  (fun _ h9 => h9) dJ2_get_2 h (fun v1 h => ?_)
  refine g_cSRv (rv := fun x : Int32 => Value.int x) [.int a1, .int v1] (fun x0 e0 => ok_J13_checkIndex (xl X) g m a1 v1 x0 e0) (lw_S q705 q706 q147 q707) hy_J13_checkIndex rfl ⟨by decide, by decide⟩ rfl zc_0 (by decide) dJ2_get_5 h (fun v2 h => ?_)
  refine g_pop dJ2_get_8 rfl ?_
  refine g_aload_n dJ2_get_9 0 rfl ?_
  refine g_iload_n dJ2_get_10 1 rfl ?_
  refine g_cVRv (rv := fun x : Option Nat => va_rf x) [.int a1] (fun x0 e0 => ok_J2_elementData (xl X) g m a0 a1 x0 e0) zc17 (by decide) (lw_V q709 q710 q711 q131 q712) rfl hy_J2_elementData rfl ⟨by decide, by decide⟩ rfl zc_0 (by decide) dJ2_get_11 h (fun r3 h => ?_)
  refine g_aret dJ2_get_14 hxt (by first | exact Or.inl ⟨_, rfl⟩ | exact Or.inr ⟨_, rfl⟩) ?_
  have e := Option.some.inj h
  exact Kret _ e
/-! java/util/ArrayList.isEmpty -/
def f_J2_isEmpty (g : zGd) (m : zMm) (a0 : Option Nat) : Option (Int32) :=
(zgi g m 17 2 a0).bind fun v1 =>
if v1 = 0 then (some ((1 : Int32)))
else (some ((0 : Int32)))
theorem hy_J2_isEmpty : zHy yJ2_isEmpty 0 := ⟨by decide, by decide, by decide +kernel⟩
set_option maxHeartbeats 4000000 in
theorem ok_J2_isEmpty (l : Launch) (g : zGd) (m : zMm) (a0 : Option Nat) (z0 : Int32) (h : f_J2_isEmpty g m a0 = some z0) : zCT l yJ2_isEmpty cJ2_isEmpty 1 (some .boolean) 1 20 g m [va_rf a0] (some (.int z0)) g m := by
  refine zCT.of (own := "java/util/ArrayList") (mn := "isEmpty") (by decide +kernel) rfl rfl (zla_r zla_0) (zls_r zls_0) (by decide) (fun X hxl hxg hxf hxt hxr hxn => ?_)
  have Kret : ∀ (y0 : Int32), y0 = z0 → zRe X g m (some (.int y0)) := by
    intro y0 e; cases e; exact ⟨hxf, hxr, hxn⟩
  subst hxl
  show zG X cJ2_isEmpty 1 "java/util/ArrayList" "isEmpty" 1 20 0 [(0, va_rf a0)] [] g m
  unfold f_J2_isEmpty at h
  refine g_aload_n dJ2_isEmpty_0 0 rfl ?_
  refine gf_i zfd_17_2 q394  (fun _ h9 => h9) dJ2_isEmpty_1 h (fun v1 h => ?_)
  refine g_if_ne 11 dJ2_isEmpty_4 (by decide) (fun c => ?_) (fun c => ?_)
  · have h := zite_n h c
    refine g_iconst (v := (0 : Int32)) dJ2_isEmpty_11 (by decide) ?_
    refine g_zret dJ2_isEmpty_12 hxt rfl ?_
    have e := Option.some.inj h
    exact Kret _ e
  · have h := zite_p h c
    refine g_iconst (v := (1 : Int32)) dJ2_isEmpty_7 (by decide) ?_
    refine g_goto 12 dJ2_isEmpty_8 (by decide) ?_
    refine g_zret dJ2_isEmpty_12 hxt rfl ?_
    have e := Option.some.inj h
    exact Kret _ e
/-! java/lang/String.coder -/
def f_J3_coder (g : zGd) (m : zMm) (a0 : Option Nat) : Option (Int32) :=
if (1 : Int32) = 0 then (some ((1 : Int32)))
else ((zgi g m 18 1 a0).bind fun v1 =>
(zby v1).bind fun z =>
some (z))
theorem hy_J3_coder : zHy yJ3_coder 0 := ⟨by decide, by decide, by decide +kernel⟩
set_option maxHeartbeats 4000000 in
theorem ok_J3_coder (l : Launch) (g : zGd) (m : zMm) (a0 : Option Nat) (z0 : Int32) (h : f_J3_coder g m a0 = some z0) : zCT l yJ3_coder cJ3_coder 1 (some .byte) 1 20 g m [va_rf a0] (some (.int z0)) g m := by
  refine zCT.of (own := "java/lang/String") (mn := "coder") (by decide +kernel) rfl rfl (zla_r zla_0) (zls_r zls_0) (by decide) (fun X hxl hxg hxf hxt hxr hxn => ?_)
  have Kret : ∀ (y0 : Int32), y0 = z0 → zRe X g m (some (.int y0)) := by
    intro y0 e; cases e; exact ⟨hxf, hxr, hxn⟩
  subst hxl
  show zG X cJ3_coder 1 "java/lang/String" "coder" 1 20 0 [(0, va_rf a0)] [] g m
  unfold f_J3_coder at h
  refine g_getsi (List.mem_of_getElem? (i := 1) rfl) q440 (fun _ h9 => h9) dJ3_coder_0 ?_
  refine g_if_eq 13 dJ3_coder_3 (by decide) (fun c => ?_) (fun c => ?_)
  · have h := zite_p h c
    refine g_iconst (v := (1 : Int32)) dJ3_coder_13 (by decide) ?_
    refine g_zret dJ3_coder_14 hxt rfl ?_
    have e := Option.some.inj h
    exact Kret _ e
  · have h := zite_n h c
    refine g_aload_n dJ3_coder_6 0 rfl ?_
    refine g_strC q2146  dJ3_coder_7 h (fun v1 h => ?_)
    refine g_goto 14 dJ3_coder_10 (by decide) ?_
    obtain ⟨hn, h⟩ := zby_e h
    refine g_zret dJ3_coder_14 hxt hn ?_
    have e := Option.some.inj h
    exact Kret _ e
/-! java/lang/String.length -/
def f_J3_length (g : zGd) (m : zMm) (a0 : Option Nat) : Option (Int32) :=
(zgr g m 18 0 a0).bind fun r1 =>
(zalen g r1).bind fun v2 =>
(zrc g 18 a0 (f_J3_coder g m a0)).bind fun v3 =>
some ((zshr v2 v3))
theorem hy_J3_length : zHy yJ3_length 0 := ⟨by decide, by decide, by decide +kernel⟩
set_option maxHeartbeats 4000000 in
theorem ok_J3_length (l : Launch) (g : zGd) (m : zMm) (a0 : Option Nat) (z0 : Int32) (h : f_J3_length g m a0 = some z0) : zCT l yJ3_length cJ3_length 1 (some .int) 2 40 g m [va_rf a0] (some (.int z0)) g m := by
  refine zCT.of (own := "java/lang/String") (mn := "length") (by decide +kernel) rfl rfl (zla_r zla_0) (zls_r zls_0) (by decide) (fun X hxl hxg hxf hxt hxr hxn => ?_)
  have Kret : ∀ (y0 : Int32), y0 = z0 → zRe X g m (some (.int y0)) := by
    intro y0 e; cases e; exact ⟨hxf, hxr, hxn⟩
  subst hxl
  show zG X cJ3_length 1 "java/lang/String" "length" 2 40 0 [(0, va_rf a0)] [] g m
  unfold f_J3_length at h
  refine g_aload_n dJ3_length_0 0 rfl ?_
  refine g_strV q2145  dJ3_length_1 h (fun r1 h => ?_)
  refine g_alen dJ3_length_4 h (fun v2 h => ?_)
  refine g_aload_n dJ3_length_5 0 rfl ?_
  refine g_cVRv (rv := fun x : Int32 => Value.int x) [] (fun x0 e0 => ok_J3_coder (xl X) g m a0 x0 e0) zc18 (by decide) (lw_V q436 q437 q438 q132 q439) rfl hy_J3_coder rfl ⟨by decide, by decide⟩ rfl (zc_i zc_0) (by decide) dJ3_length_6 h (fun v3 h => ?_)
  refine g_ishr dJ3_length_9 ?_
  refine g_iret dJ3_length_10 hxt ?_
  have e := Option.some.inj h
  exact Kret _ e
/-! java/lang/String.isLatin1 -/
def f_J3_isLatin1 (g : zGd) (m : zMm) (a0 : Option Nat) : Option (Int32) :=
if (1 : Int32) = 0 then (some ((0 : Int32)))
else ((zgi g m 18 1 a0).bind fun v1 =>
if v1 = 0 then (some ((1 : Int32)))
else (some ((0 : Int32))))
theorem hy_J3_isLatin1 : zHy yJ3_isLatin1 0 := ⟨by decide, by decide, by decide +kernel⟩
set_option maxHeartbeats 4000000 in
theorem ok_J3_isLatin1 (l : Launch) (g : zGd) (m : zMm) (a0 : Option Nat) (z0 : Int32) (h : f_J3_isLatin1 g m a0 = some z0) : zCT l yJ3_isLatin1 cJ3_isLatin1 1 (some .boolean) 1 20 g m [va_rf a0] (some (.int z0)) g m := by
  refine zCT.of (own := "java/lang/String") (mn := "isLatin1") (by decide +kernel) rfl rfl (zla_r zla_0) (zls_r zls_0) (by decide) (fun X hxl hxg hxf hxt hxr hxn => ?_)
  have Kret : ∀ (y0 : Int32), y0 = z0 → zRe X g m (some (.int y0)) := by
    intro y0 e; cases e; exact ⟨hxf, hxr, hxn⟩
  subst hxl
  show zG X cJ3_isLatin1 1 "java/lang/String" "isLatin1" 1 20 0 [(0, va_rf a0)] [] g m
  unfold f_J3_isLatin1 at h
  refine g_getsi (List.mem_of_getElem? (i := 1) rfl) q440 (fun _ h9 => h9) dJ3_isLatin1_0 ?_
  refine g_if_eq 17 dJ3_isLatin1_3 (by decide) (fun c => ?_) (fun c => ?_)
  · have h := zite_p h c
    refine g_iconst (v := (0 : Int32)) dJ3_isLatin1_17 (by decide) ?_
    refine g_zret dJ3_isLatin1_18 hxt rfl ?_
    have e := Option.some.inj h
    exact Kret _ e
  · have h := zite_n h c
    refine g_aload_n dJ3_isLatin1_6 0 rfl ?_
    refine g_strC q2146  dJ3_isLatin1_7 h (fun v1 h => ?_)
    refine g_if_ne 17 dJ3_isLatin1_10 (by decide) (fun c => ?_) (fun c => ?_)
    · have h := zite_n h c
      refine g_iconst (v := (0 : Int32)) dJ3_isLatin1_17 (by decide) ?_
      refine g_zret dJ3_isLatin1_18 hxt rfl ?_
      have e := Option.some.inj h
      exact Kret _ e
    · have h := zite_p h c
      refine g_iconst (v := (1 : Int32)) dJ3_isLatin1_13 (by decide) ?_
      refine g_goto 18 dJ3_isLatin1_14 (by decide) ?_
      refine g_zret dJ3_isLatin1_18 hxt rfl ?_
      have e := Option.some.inj h
      exact Kret _ e
/-! java/lang/String.checkIndex -/
def f_J3_checkIndex (g : zGd) (m : zMm) (a0 : Int32) (a1 : Int32) : Option (Unit) :=
(f_J5_checkIndex a0 a1 (zS g 5)).bind fun v1 =>
some (())
theorem hy_J3_checkIndex : zHy yJ3_checkIndex 2 := ⟨by decide, by decide, by decide +kernel⟩
set_option maxHeartbeats 4000000 in
theorem ok_J3_checkIndex (l : Launch) (g : zGd) (m : zMm) (a0 : Int32) (a1 : Int32) (z0 : Unit) (h : f_J3_checkIndex g m a0 a1 = some z0) : zCT l yJ3_checkIndex cJ3_checkIndex 2 none 2 42 g m [.int a0, .int a1] none g m := by
  refine zCT.of (own := "java/lang/String") (mn := "checkIndex") (by decide +kernel) rfl rfl (zla_i (zla_i zla_0)) (zls_i (zls_i zls_0)) (by decide) (fun X hxl hxg hxf hxt hxr hxn => ?_)
  have Kret : ∀ (y0 : Unit), y0 = z0 → zRe X g m none := by
    intro y0 e; exact ⟨hxf, hxr, hxn⟩
  subst hxl
  show zG X cJ3_checkIndex 2 "java/lang/String" "checkIndex" 2 42 0 [(0, .int a0), (1, .int a1)] [] g m
  unfold f_J3_checkIndex at h
  refine g_iload_n dJ3_checkIndex_0 0 rfl ?_
  refine g_iload_n dJ3_checkIndex_1 1 rfl ?_
  refine g_gets (List.mem_of_getElem? (i := 5) rfl) q456 (fun _ h9 => h9) dJ3_checkIndex_2 ?_
  refine g_cSRv (rv := fun x : Int32 => Value.int x) [.int a0, .int a1, va_rf (zS g 5)] (fun x0 e0 => ok_J5_checkIndex (xl X) g m a0 a1 (zS g 5) x0 e0) (lw_S q458 q459 q134 q460) hy_J5_checkIndex rfl ⟨by decide, by decide⟩ rfl zc_0 (by decide) dJ3_checkIndex_5 h (fun v1 h => ?_)
  refine g_pop dJ3_checkIndex_8 rfl ?_
  refine g_vret dJ3_checkIndex_9 hxt ?_
  have e := Option.some.inj h
  exact Kret _ e
/-! java/lang/StringLatin1.charAt -/
def f_J4_charAt (g : zGd) (m : zMm) (a0 : Option Nat) (a1 : Int32) : Option (Int32) :=
(zalen g a0).bind fun v1 =>
(f_J3_checkIndex g m a1 v1).bind fun _ =>
(zald 102 g m a0 a1).bind fun v2 =>
(zch (zi2c (v2 &&& (255 : Int32)))).bind fun z =>
some (z)
theorem hy_J4_charAt : zHy yJ4_charAt 2 := ⟨by decide, by decide, by decide +kernel⟩
set_option maxHeartbeats 4000000 in
theorem ok_J4_charAt (l : Launch) (g : zGd) (m : zMm) (a0 : Option Nat) (a1 : Int32) (z0 : Int32) (h : f_J4_charAt g m a0 a1 = some z0) : zCT l yJ4_charAt cJ4_charAt 2 (some .char) 3 63 g m [va_rf a0, .int a1] (some (.int z0)) g m := by
  refine zCT.of (own := "java/lang/StringLatin1") (mn := "charAt") (by decide +kernel) rfl rfl (zla_r (zla_i zla_0)) (zls_r (zls_i zls_0)) (by decide) (fun X hxl hxg hxf hxt hxr hxn => ?_)
  have Kret : ∀ (y0 : Int32), y0 = z0 → zRe X g m (some (.int y0)) := by
    intro y0 e; cases e; exact ⟨hxf, hxr, hxn⟩
  subst hxl
  show zG X cJ4_charAt 2 "java/lang/StringLatin1" "charAt" 3 63 0 [(0, va_rf a0), (1, .int a1)] [] g m
  unfold f_J4_charAt at h
  refine g_iload_n dJ4_charAt_0 1 rfl ?_
  refine g_aload_n dJ4_charAt_1 0 rfl ?_
  refine g_alen dJ4_charAt_2 h (fun v1 h => ?_)
  refine g_cSRn [.int a1, .int v1] (fun x0 e0 => ok_J3_checkIndex (xl X) g m a1 v1 x0 e0) (lw_S q453 q454 q132 q455) hy_J3_checkIndex rfl ⟨by decide, by decide⟩ rfl zc_0 (by decide) dJ4_charAt_3 h (fun _ h => ?_)
  refine g_aload_n dJ4_charAt_6 0 rfl ?_
  refine g_iload_n dJ4_charAt_7 1 rfl ?_
  refine g_bald dJ4_charAt_8 h (fun v2 h => ?_)
  refine g_sipush (v := (255 : Int32)) dJ4_charAt_9 (by decide) ?_
  refine g_iand dJ4_charAt_12 ?_
  refine g_i2c dJ4_charAt_13 ?_
  obtain ⟨hn, h⟩ := zch_e h
  refine g_zret dJ4_charAt_14 hxt hn ?_
  have e := Option.some.inj h
  exact Kret _ e
/-! java/lang/StringUTF16.length -/
def f_J6_length (g : zGd) (m : zMm) (a0 : Option Nat) : Option (Int32) :=
(zalen g a0).bind fun v1 =>
some ((zshr v1 (1 : Int32)))
theorem hy_J6_length : zHy yJ6_length 1 := ⟨by decide, by decide, by decide +kernel⟩
set_option maxHeartbeats 4000000 in
theorem ok_J6_length (l : Launch) (g : zGd) (m : zMm) (a0 : Option Nat) (z0 : Int32) (h : f_J6_length g m a0 = some z0) : zCT l yJ6_length cJ6_length 1 (some .int) 1 20 g m [va_rf a0] (some (.int z0)) g m := by
  refine zCT.of (own := "java/lang/StringUTF16") (mn := "length") (by decide +kernel) rfl rfl (zla_r zla_0) (zls_r zls_0) (by decide) (fun X hxl hxg hxf hxt hxr hxn => ?_)
  have Kret : ∀ (y0 : Int32), y0 = z0 → zRe X g m (some (.int y0)) := by
    intro y0 e; cases e; exact ⟨hxf, hxr, hxn⟩
  subst hxl
  show zG X cJ6_length 1 "java/lang/StringUTF16" "length" 1 20 0 [(0, va_rf a0)] [] g m
  unfold f_J6_length at h
  refine g_aload_n dJ6_length_0 0 rfl ?_
  refine g_alen dJ6_length_1 h (fun v1 h => ?_)
  refine g_iconst (v := (1 : Int32)) dJ6_length_2 (by decide) ?_
  refine g_ishr dJ6_length_3 ?_
  refine g_iret dJ6_length_4 hxt ?_
  have e := Option.some.inj h
  exact Kret _ e
/-! java/lang/StringUTF16.checkIndex -/
def f_J6_checkIndex (g : zGd) (m : zMm) (a0 : Int32) (a1 : Option Nat) : Option (Unit) :=
none
theorem hy_J6_checkIndex : zHy yJ6_checkIndex 2 := ⟨by decide, by decide, by decide +kernel⟩
set_option maxHeartbeats 4000000 in
theorem ok_J6_checkIndex (l : Launch) (g : zGd) (m : zMm) (a0 : Int32) (a1 : Option Nat) (z0 : Unit) (h : f_J6_checkIndex g m a0 a1 = some z0) : zCT l yJ6_checkIndex cJ6_checkIndex 2 none 1 20 g m [.int a0, va_rf a1] none g m := by
  refine zCT.of (own := "java/lang/StringUTF16") (mn := "checkIndex") (by decide +kernel) rfl rfl (zla_i (zla_r zla_0)) (zls_i (zls_r zls_0)) (by decide) (fun X hxl hxg hxf hxt hxr hxn => ?_)
  have Kret : ∀ (y0 : Unit), y0 = z0 → zRe X g m none := by
    intro y0 e; exact ⟨hxf, hxr, hxn⟩
  subst hxl
  show zG X cJ6_checkIndex 2 "java/lang/StringUTF16" "checkIndex" 1 20 0 [(0, .int a0), (1, va_rf a1)] [] g m
  unfold f_J6_checkIndex at h
  refine g_iload_n dJ6_checkIndex_0 0 rfl ?_
  refine g_aload_n dJ6_checkIndex_1 1 rfl ?_
  cases h
/-! java/lang/String.charAt -/
def f_J3_charAt (g : zGd) (m : zMm) (a0 : Option Nat) (a1 : Int32) : Option (Int32 × zGd × zMm) :=
(zrc g 18 a0 (f_J3_isLatin1 g m a0)).bind fun v1 =>
if v1 = 0 then ((zgr g m 18 0 a0).bind fun r2 =>
none)
else ((zgr g m 18 0 a0).bind fun r3 =>
(f_J4_charAt g m r3 a1).bind fun v4 =>
(zch v4).bind fun z =>
some ((z, g, m)))
theorem hy_J3_charAt : zHy yJ3_charAt 1 := ⟨by decide, by decide, by decide +kernel⟩
set_option maxHeartbeats 4000000 in
theorem ok_J3_charAt (l : Launch) (g : zGd) (m : zMm) (a0 : Option Nat) (a1 : Int32) (z0 : Int32) (g0 : zGd) (m0 : zMm) (h : f_J3_charAt g m a0 a1 = some (z0, g0, m0)) : zCT l yJ3_charAt cJ3_charAt 2 (some .char) 4 84 g m [va_rf a0, .int a1] (some (.int z0)) g0 m0 := by
  refine zCT.of (own := "java/lang/String") (mn := "charAt") (by decide +kernel) rfl rfl (zla_r (zla_i zla_0)) (zls_r (zls_i zls_0)) (by decide) (fun X hxl hxg hxf hxt hxr hxn => ?_)
  have Kret : ∀ (y0 : Int32) (y1 : zGd) (y2 : zMm), (y0, y1, y2) = (z0, g0, m0) → zRe X y1 y2 (some (.int y0)) := by
    intro y0 y1 y2 e; cases e; exact ⟨hxf, hxr, hxn⟩
  subst hxl
  show zG X cJ3_charAt 2 "java/lang/String" "charAt" 4 84 0 [(0, va_rf a0), (1, .int a1)] [] g m
  unfold f_J3_charAt at h
  refine g_aload_n dJ3_charAt_0 0 rfl ?_
  refine g_cVRv (rv := fun x : Int32 => Value.int x) [] (fun x0 e0 => ok_J3_isLatin1 (xl X) g m a0 x0 e0) zc18 (by decide) (lw_V q446 q447 q448 q132 q449) rfl hy_J3_isLatin1 rfl ⟨by decide, by decide⟩ rfl zc_0 (by decide) dJ3_charAt_1 h (fun v1 h => ?_)
  refine g_if_eq 16 dJ3_charAt_4 (by decide) (fun c => ?_) (fun c => ?_)
  · have h := zite_p h c
    refine g_aload_n dJ3_charAt_16 0 rfl ?_
    refine g_strV q2145  dJ3_charAt_17 h (fun r2 h => ?_)
    refine g_iload_n dJ3_charAt_20 1 rfl ?_
    cases h
  · have h := zite_n h c
    refine g_aload_n dJ3_charAt_7 0 rfl ?_
    refine g_strV q2145  dJ3_charAt_8 h (fun r3 h => ?_)
    refine g_iload_n dJ3_charAt_11 1 rfl ?_
    refine g_cSRv (rv := fun x : Int32 => Value.int x) [va_rf r3, .int a1] (fun x0 e0 => ok_J4_charAt (xl X) g m r3 a1 x0 e0) (lw_S q450 q451 q133 q452) hy_J4_charAt rfl ⟨by decide, by decide⟩ rfl zc_0 (by decide) dJ3_charAt_12 h (fun v4 h => ?_)
    obtain ⟨hn, h⟩ := zch_e h
    refine g_zret dJ3_charAt_15 hxt hn ?_
    have e := Option.some.inj h
    exact Kret _ _ _ e
/-! java/lang/Math.min -/
def f_J7_min_2 (a0 : Int64) (a2 : Int64) : Option (Int64) :=
if a2 < a0 then (some (a2))
else (some (a0))
theorem hy_J7_min_2 : zHy yJ7_min_2 2 := ⟨by decide, by decide, by decide +kernel⟩
set_option maxHeartbeats 4000000 in
theorem ok_J7_min_2 (l : Launch) (g : zGd) (m : zMm) (a0 : Int64) (a2 : Int64) (z0 : Int64) (h : f_J7_min_2 a0 a2 = some z0) : zCT l yJ7_min_2 cJ7_min_2 4 (some .long) 1 20 g m [.long a0, .long a2] (some (.long z0)) g m := by
  refine zCT.of (own := "java/lang/Math") (mn := "min") (by decide +kernel) rfl rfl (zla_l (zla_l zla_0)) (zls_l (zls_l zls_0)) (by decide) (fun X hxl hxg hxf hxt hxr hxn => ?_)
  have Kret : ∀ (y0 : Int64), y0 = z0 → zRe X g m (some (.long y0)) := by
    intro y0 e; cases e; exact ⟨hxf, hxr, hxn⟩
  subst hxl
  show zG X cJ7_min_2 4 "java/lang/Math" "min" 1 20 0 [(0, .long a0), (2, .long a2)] [] g m
  unfold f_J7_min_2 at h
  refine g_lload_n dJ7_min_2_0 0 rfl ?_
  refine g_lload_n dJ7_min_2_1 1 rfl ?_
  refine g_lcmp_gt 10 dJ7_min_2_2 dJ7_min_2_3 (by decide) (fun c => ?_) (fun c => ?_)
  · have h := zite_p h c
    refine g_lload_n dJ7_min_2_10 1 rfl ?_
    refine g_lret dJ7_min_2_11 hxt ?_
    have e := Option.some.inj h
    exact Kret _ e
  · have h := zite_n h c
    refine g_lload_n dJ7_min_2_6 0 rfl ?_
    refine g_goto 11 dJ7_min_2_7 (by decide) ?_
    refine g_lret dJ7_min_2_11 hxt ?_
    have e := Option.some.inj h
    exact Kret _ e
/-! java/lang/Math.max -/
def f_J7_max_2 (a0 : Int64) (a2 : Int64) : Option (Int64) :=
if a0 < a2 then (some (a2))
else (some (a0))
theorem hy_J7_max_2 : zHy yJ7_max_2 2 := ⟨by decide, by decide, by decide +kernel⟩
set_option maxHeartbeats 4000000 in
theorem ok_J7_max_2 (l : Launch) (g : zGd) (m : zMm) (a0 : Int64) (a2 : Int64) (z0 : Int64) (h : f_J7_max_2 a0 a2 = some z0) : zCT l yJ7_max_2 cJ7_max_2 4 (some .long) 1 20 g m [.long a0, .long a2] (some (.long z0)) g m := by
  refine zCT.of (own := "java/lang/Math") (mn := "max") (by decide +kernel) rfl rfl (zla_l (zla_l zla_0)) (zls_l (zls_l zls_0)) (by decide) (fun X hxl hxg hxf hxt hxr hxn => ?_)
  have Kret : ∀ (y0 : Int64), y0 = z0 → zRe X g m (some (.long y0)) := by
    intro y0 e; cases e; exact ⟨hxf, hxr, hxn⟩
  subst hxl
  show zG X cJ7_max_2 4 "java/lang/Math" "max" 1 20 0 [(0, .long a0), (2, .long a2)] [] g m
  unfold f_J7_max_2 at h
  refine g_lload_n dJ7_max_2_0 0 rfl ?_
  refine g_lload_n dJ7_max_2_1 1 rfl ?_
  refine g_lcmp_lt 10 dJ7_max_2_2 dJ7_max_2_3 (by decide) (fun c => ?_) (fun c => ?_)
  · have h := zite_p h c
    refine g_lload_n dJ7_max_2_10 1 rfl ?_
    refine g_lret dJ7_max_2_11 hxt ?_
    have e := Option.some.inj h
    exact Kret _ e
  · have h := zite_n h c
    refine g_lload_n dJ7_max_2_6 0 rfl ?_
    refine g_goto 11 dJ7_max_2_7 (by decide) ?_
    refine g_lret dJ7_max_2_11 hxt ?_
    have e := Option.some.inj h
    exact Kret _ e
/-! java/lang/Math.abs -/
def f_J7_abs (a0 : Int32) : Option (Int32) :=
if 0 ≤ a0 then (some (a0))
else (some ((-a0)))
theorem hy_J7_abs : zHy yJ7_abs 1 := ⟨by decide, by decide, by decide +kernel⟩
set_option maxHeartbeats 4000000 in
theorem ok_J7_abs (l : Launch) (g : zGd) (m : zMm) (a0 : Int32) (z0 : Int32) (h : f_J7_abs a0 = some z0) : zCT l yJ7_abs cJ7_abs 1 (some .int) 1 20 g m [.int a0] (some (.int z0)) g m := by
  refine zCT.of (own := "java/lang/Math") (mn := "abs") (by decide +kernel) rfl rfl (zla_i zla_0) (zls_i zls_0) (by decide) (fun X hxl hxg hxf hxt hxr hxn => ?_)
  have Kret : ∀ (y0 : Int32), y0 = z0 → zRe X g m (some (.int y0)) := by
    intro y0 e; cases e; exact ⟨hxf, hxr, hxn⟩
  subst hxl
  show zG X cJ7_abs 1 "java/lang/Math" "abs" 1 20 0 [(0, .int a0)] [] g m
  unfold f_J7_abs at h
  refine g_iload_n dJ7_abs_0 0 rfl ?_
  refine g_if_ge 9 dJ7_abs_1 (by decide) (fun c => ?_) (fun c => ?_)
  · have h := zite_p h c
    refine g_iload_n dJ7_abs_9 0 rfl ?_
    refine g_iret dJ7_abs_10 hxt ?_
    have e := Option.some.inj h
    exact Kret _ e
  · have h := zite_n h c
    refine g_iload_n dJ7_abs_4 0 rfl ?_
    refine g_ineg dJ7_abs_5 ?_
    refine g_goto 10 dJ7_abs_6 (by decide) ?_
    refine g_iret dJ7_abs_10 hxt ?_
    have e := Option.some.inj h
    exact Kret _ e
