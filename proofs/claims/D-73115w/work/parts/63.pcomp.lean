/-! P-LEVEL: programs (printed by gen/prun.py) -/
set_option maxRecDepth 100000
def p_J7_max (a0 : Int) (a1 : Int) : Option Int :=
if a0 < a1 then (some (a1))
else (some (a0))
set_option maxHeartbeats 4000000 in
theorem rf_J7_max {pa0 : Int} {a0 : Int32} (ea0 : pa0 = a0.toInt) {pa1 : Int} {a1 : Int32} (ea1 : pa1 = a1.toInt) : pRf qI (p_J7_max pa0 pa1) (f_J7_max a0 a1) := by
  subst ea0
  subst ea1
  unfold p_J7_max f_J7_max
  refine r_ite (pc_lt rfl rfl) ?_ ?_
  · exact r_some (qI_i rfl)
  · exact r_some (qI_i rfl)
def p_J7_min (a0 : Int) (a1 : Int) : Option Int :=
if a1 < a0 then (some (a1))
else (some (a0))
set_option maxHeartbeats 4000000 in
theorem rf_J7_min {pa0 : Int} {a0 : Int32} (ea0 : pa0 = a0.toInt) {pa1 : Int} {a1 : Int32} (ea1 : pa1 = a1.toInt) : pRf qI (p_J7_min pa0 pa1) (f_J7_min a0 a1) := by
  subst ea0
  subst ea1
  unfold p_J7_min f_J7_min
  refine r_ite (pc_lt rfl rfl) ?_ ?_
  · exact r_some (qI_i rfl)
  · exact r_some (qI_i rfl)
def pb_J12_fill_5 (ca0 na0 : Nat) (a1 : Int) (v1 : Int) : (Int × zP) → Option (zP ⊕ (Int × zP)) := fun (v5, S6) =>
if v1 ≤ v5 then (some (.inl S6))
else ((past S6 ca0 na0 v5 a1).bind fun S7 =>
p32 (v5 + 1) fun v8 =>
some (.inr (v8, S7)))
set_option maxHeartbeats 4000000 in
theorem rb_J12_fill_5 {g : zGd} {M : Nat} {m0 : zMm} (hL : pLC g (zR m0) M) {ca0 na0 : Nat} (ka0 : zK g ((bC M).1 + ca0) = (101, na0)) (za0 : ∀ i, (bC M).2.2 ca0 i) (hnna0 : na0 ≤ 2147483647) {pa1 : Int} {a1 : Int32} (ea1 : pa1 = a1.toInt) {pv1 : Int} {v1 : Int32} (ev1 : pv1 = v1.toInt) : ∀ s t, (qP qI (qM (bC M) m0)) s t → pRf (qS (qM (bC M) m0) (qP qI (qM (bC M) m0))) (pb_J12_fill_5 ca0 na0 pa1 pv1 s) (b_J12_fill_5 g (some ((bC M).1 + ca0)) a1 v1 t) := by
  subst ea1
  subst ev1
  rintro ⟨pv5, S6⟩ ⟨v5, m6⟩ ⟨ev5, ⟨em6, hm6⟩⟩
  change pv5 = v5.toInt at ev5; subst ev5
  change S6 = pI (bC M) m6 at em6; subst em6
  unfold pb_J12_fill_5 b_J12_fill_5
  try dsimp only
  refine r_ite (pc_le rfl rfl) ?_ ?_
  · exact r_some (qS_l (qM_i hm6))
  · refine r_ast hm6 ka0 hL.1 (za0 _) rfl rfl (fun _ => rfl) (fun m7 hm7 => ?_)
    refine r_lt32 (px_add (px_v _) (px_n (1 : Int32) (by decide))) (fun v8 => ?_)
    exact r_some (qS_r (qP_i (qI_i rfl) (qM_i hm7)))
def p_J12_fill (S : zP) (ca0 na0 : Nat) (a1 : Int) : Option zP :=
zlt (na0 : Int) fun v1 =>
(zLoop (pb_J12_fill_5 ca0 na0 a1 v1) zFuel (0, S)).bind fun S3 =>
some (S3)
set_option maxHeartbeats 4000000 in
theorem rf_J12_fill {g : zGd} {M : Nat} {m0 : zMm} (hL : pLC g (zR m0) M) {m : zMm} (hm : pOk (bC M) m0 m) {ca0 na0 : Nat} (ka0 : zK g ((bC M).1 + ca0) = (101, na0)) (za0 : ∀ i, (bC M).2.2 ca0 i) (hnna0 : na0 ≤ 2147483647) {pa1 : Int} {a1 : Int32} (ea1 : pa1 = a1.toInt) : pRf (qM (bC M) m0) (p_J12_fill (pI (bC M) m) ca0 na0 pa1) (f_J12_fill g m (some ((bC M).1 + ca0)) a1) := by
  subst ea1
  unfold p_J12_fill f_J12_fill
  refine r_alen ka0 (by decide) hnna0 (fun v1 => ?_)
  refine r_bind (A := (qM (bC M) m0)) (r_loop (rb_J12_fill_5 hL ka0 za0 hnna0 rfl rfl) zFuel _ _ (qP_i (qI_i (eI (0 : Int32) (by decide))) (qM_i hm))) ?_
  rintro S3 m3 ⟨em3, hm3⟩
  change S3 = pI (bC M) m3 at em3; subst em3
  exact r_some (qM_i hm3)
def p_J15_bitCount (a0 : Int) : Option Int :=
zlt (pushr a0 1) fun x1 =>
p32 (a0 - (pand x1 1431655765)) fun v1 =>
zlt (pushr v1 2) fun x2 =>
p32 ((pand v1 858993459) + (pand x2 858993459)) fun v2 =>
p32 (v2 + (pushr v2 4)) fun x3 =>
zlt (pand x3 252645135) fun v3 =>
p32 (v3 + (pushr v3 8)) fun v4 =>
p32 (v4 + (pushr v4 16)) fun v5 =>
zlt (pand v5 63) fun x4 =>
some (x4)
set_option maxHeartbeats 4000000 in
theorem rf_J15_bitCount {pa0 : Int} {a0 : Int32} (ea0 : pa0 = a0.toInt) : pRf qI (p_J15_bitCount pa0) (f_J15_bitCount a0) := by
  subst ea0
  unfold p_J15_bitCount f_J15_bitCount
  refine r_x32 (pe_ushr rfl (eI (1 : Int32) (by decide))) ?_
  refine r_lt32 (px_sub (px_v _) (px_e (pe_and rfl (eI (1431655765 : Int32) (by decide))))) (fun v1 => ?_)
  refine r_x32 (pe_ushr rfl (eI (2 : Int32) (by decide))) ?_
  refine r_lt32 (px_add (px_e (pe_and rfl (eI (858993459 : Int32) (by decide)))) (px_e (pe_and rfl (eI (858993459 : Int32) (by decide))))) (fun v2 => ?_)
  refine r_p32 (px_add (px_v _) (px_e (pe_ushr rfl (eI (4 : Int32) (by decide))))) ?_
  refine r_ltx (pe_and rfl (eI (252645135 : Int32) (by decide))) (fun v3 => ?_)
  refine r_lt32 (px_add (px_v _) (px_e (pe_ushr rfl (eI (8 : Int32) (by decide))))) (fun v4 => ?_)
  refine r_lt32 (px_add (px_v _) (px_e (pe_ushr rfl (eI (16 : Int32) (by decide))))) (fun v5 => ?_)
  refine r_x32 (pe_and rfl (eI (63 : Int32) (by decide))) ?_
  exact r_some (qI_i rfl)
def p_J7_min_2 (a0 : Int) (a2 : Int) : Option Int :=
if a2 < a0 then (some (a2))
else (some (a0))
set_option maxHeartbeats 4000000 in
theorem rf_J7_min_2 {pa0 : Int} {a0 : Int64} (ea0 : pa0 = a0.toInt) {pa2 : Int} {a2 : Int64} (ea2 : pa2 = a2.toInt) : pRf qJ (p_J7_min_2 pa0 pa2) (f_J7_min_2 a0 a2) := by
  subst ea0
  subst ea2
  unfold p_J7_min_2 f_J7_min_2
  refine r_ite (pcj_lt rfl rfl) ?_ ?_
  · exact r_some (qJ_i rfl)
  · exact r_some (qJ_i rfl)
def p_J7_max_2 (a0 : Int) (a2 : Int) : Option Int :=
if a0 < a2 then (some (a2))
else (some (a0))
set_option maxHeartbeats 4000000 in
theorem rf_J7_max_2 {pa0 : Int} {a0 : Int64} (ea0 : pa0 = a0.toInt) {pa2 : Int} {a2 : Int64} (ea2 : pa2 = a2.toInt) : pRf qJ (p_J7_max_2 pa0 pa2) (f_J7_max_2 a0 a2) := by
  subst ea0
  subst ea2
  unfold p_J7_max_2 f_J7_max_2
  refine r_ite (pcj_lt rfl rfl) ?_ ?_
  · exact r_some (qJ_i rfl)
  · exact r_some (qJ_i rfl)
def p_J7_abs (a0 : Int) : Option Int :=
if 0 ≤ a0 then (some (a0))
else (p32 (-a0) fun x1 =>
some (x1))
set_option maxHeartbeats 4000000 in
theorem rf_J7_abs {pa0 : Int} {a0 : Int32} (ea0 : pa0 = a0.toInt) : pRf qI (p_J7_abs pa0) (f_J7_abs a0) := by
  subst ea0
  unfold p_J7_abs f_J7_abs
  refine r_ite (pc_le (eI (0 : Int32) (by decide)) rfl) ?_ ?_
  · exact r_some (qI_i rfl)
  · refine r_p32 (px_neg (px_v _)) ?_
    exact r_some (qI_i rfl)
def p_X1_copy (S : zP) (ca0 na0 : Nat) (ca1 na1 : Nat) : Option zP :=
zlt (na0 : Int) fun v1 =>
(pcp S ca0 na0 0 ca1 na1 0 v1).bind fun S2 =>
some (S2)
set_option maxHeartbeats 4000000 in
theorem rf_X1_copy {g : zGd} {M : Nat} {m0 : zMm} (hL : pLC g (zR m0) M) {m : zMm} (hm : pOk (bC M) m0 m) {ca0 na0 : Nat} (ka0 : zK g ((bC M).1 + ca0) = (101, na0)) (za0 : ∀ i, (bC M).2.2 ca0 i) (hnna0 : na0 ≤ 2147483647) {ca1 na1 : Nat} (ka1 : zK g ((bC M).1 + ca1) = (101, na1)) (za1 : ∀ i, (bC M).2.2 ca1 i) (hnna1 : na1 ≤ 2147483647) : pRf (qM (bC M) m0) (p_X1_copy (pI (bC M) m) ca0 na0 ca1 na1) (f_X1_copy g m (some ((bC M).1 + ca0)) (some ((bC M).1 + ca1))) := by
  unfold p_X1_copy f_X1_copy
  refine r_alen ka0 (by decide) hnna0 (fun v1 => ?_)
  refine r_cpi hm ka0 ka1 hL.1 za1 (eI (0 : Int32) (by decide)) (eI (0 : Int32) (by decide)) rfl (fun _ => rfl) (fun _ => rfl) (fun m2 hm2 => ?_)
  exact r_some (qM_i hm2)
def pb_X1_copy_2_2 (ca0 na0 qa0 : Nat) (ca1 na1 qa1 : Nat) : (Int × zP) → Option (zP ⊕ (Int × zP)) := fun (v4, S5) =>
zlt (na0 : Int) fun v6 =>
if v6 ≤ v4 then (some (.inl S5))
else ((pidx na0 v4).bind fun q1 =>
(pidx na1 v4).bind fun q2 =>
(p_X1_copy S5 (ca0 + 1 + q1) qa0 (ca1 + 1 + q2) qa1).bind fun S9 =>
p32 (v4 + 1) fun v10 =>
some (.inr (v10, S9)))
set_option maxHeartbeats 4000000 in
theorem rb_X1_copy_2_2 {g : zGd} {M : Nat} {m0 : zMm} (hL : pLC g (zR m0) M) {ca0 na0 qa0 : Nat} (ka0 : zK g ((bC M).1 + ca0) = (106, na0)) (ra0 : ∀ q, q < na0 → zR m0 ((bC M).1 + ca0) q = some ((bC M).1 + (ca0 + 1 + q))) (ja0 : ∀ q, q < na0 → zK g ((bC M).1 + (ca0 + 1 + q)) = (101, qa0)) (za0 : ∀ q, q < na0 → ∀ i, (bC M).2.2 (ca0 + 1 + q) i) (hnna0 : na0 ≤ 2147483647) (hnqa0 : qa0 ≤ 2147483647) {ca1 na1 qa1 : Nat} (ka1 : zK g ((bC M).1 + ca1) = (106, na1)) (ra1 : ∀ q, q < na1 → zR m0 ((bC M).1 + ca1) q = some ((bC M).1 + (ca1 + 1 + q))) (ja1 : ∀ q, q < na1 → zK g ((bC M).1 + (ca1 + 1 + q)) = (101, qa1)) (za1 : ∀ q, q < na1 → ∀ i, (bC M).2.2 (ca1 + 1 + q) i) (hnna1 : na1 ≤ 2147483647) (hnqa1 : qa1 ≤ 2147483647) : ∀ s t, (qP qI (qM (bC M) m0)) s t → pRf (qS (qM (bC M) m0) (qP qI (qM (bC M) m0))) (pb_X1_copy_2_2 ca0 na0 qa0 ca1 na1 qa1 s) (b_X1_copy_2_2 g (some ((bC M).1 + ca0)) (some ((bC M).1 + ca1)) t) := by
  rintro ⟨pv4, S5⟩ ⟨v4, m5⟩ ⟨ev4, ⟨em5, hm5⟩⟩
  change pv4 = v4.toInt at ev4; subst ev4
  change S5 = pI (bC M) m5 at em5; subst em5
  unfold pb_X1_copy_2_2 b_X1_copy_2_2
  try dsimp only
  refine r_alen ka0 (by decide) hnna0 (fun v6 => ?_)
  refine r_ite (pc_le rfl rfl) ?_ ?_
  · exact r_some (qS_l (qM_i hm5))
  · refine r_aldr (d := ca0 + 1) hm5 ka0 rfl ra0 (fun q1 hq1 => ?_)
    refine r_aldr (d := ca1 + 1) hm5 ka1 rfl ra1 (fun q2 hq2 => ?_)
    refine r_bind (A := (qM (bC M) m0)) (rf_X1_copy hL hm5 (ja0 q1 hq1) (za0 q1 hq1) hnqa0 (ja1 q2 hq2) (za1 q2 hq2) hnqa1) ?_
    rintro S9 m9 ⟨em9, hm9⟩
    change S9 = pI (bC M) m9 at em9; subst em9
    refine r_lt32 (px_add (px_v _) (px_n (1 : Int32) (by decide))) (fun v10 => ?_)
    exact r_some (qS_r (qP_i (qI_i rfl) (qM_i hm9)))
def p_X1_copy_2 (S : zP) (ca0 na0 qa0 : Nat) (ca1 na1 qa1 : Nat) : Option zP :=
(zLoop (pb_X1_copy_2_2 ca0 na0 qa0 ca1 na1 qa1) zFuel (0, S)).bind fun S2 =>
some (S2)
set_option maxHeartbeats 4000000 in
theorem rf_X1_copy_2 {g : zGd} {M : Nat} {m0 : zMm} (hL : pLC g (zR m0) M) {m : zMm} (hm : pOk (bC M) m0 m) {ca0 na0 qa0 : Nat} (ka0 : zK g ((bC M).1 + ca0) = (106, na0)) (ra0 : ∀ q, q < na0 → zR m0 ((bC M).1 + ca0) q = some ((bC M).1 + (ca0 + 1 + q))) (ja0 : ∀ q, q < na0 → zK g ((bC M).1 + (ca0 + 1 + q)) = (101, qa0)) (za0 : ∀ q, q < na0 → ∀ i, (bC M).2.2 (ca0 + 1 + q) i) (hnna0 : na0 ≤ 2147483647) (hnqa0 : qa0 ≤ 2147483647) {ca1 na1 qa1 : Nat} (ka1 : zK g ((bC M).1 + ca1) = (106, na1)) (ra1 : ∀ q, q < na1 → zR m0 ((bC M).1 + ca1) q = some ((bC M).1 + (ca1 + 1 + q))) (ja1 : ∀ q, q < na1 → zK g ((bC M).1 + (ca1 + 1 + q)) = (101, qa1)) (za1 : ∀ q, q < na1 → ∀ i, (bC M).2.2 (ca1 + 1 + q) i) (hnna1 : na1 ≤ 2147483647) (hnqa1 : qa1 ≤ 2147483647) : pRf (qM (bC M) m0) (p_X1_copy_2 (pI (bC M) m) ca0 na0 qa0 ca1 na1 qa1) (f_X1_copy_2 g m (some ((bC M).1 + ca0)) (some ((bC M).1 + ca1))) := by
  unfold p_X1_copy_2 f_X1_copy_2
  refine r_bind (A := (qM (bC M) m0)) (r_loop (rb_X1_copy_2_2 hL ka0 ra0 ja0 za0 hnna0 hnqa0 ka1 ra1 ja1 za1 hnna1 hnqa1) zFuel _ _ (qP_i (qI_i (eI (0 : Int32) (by decide))) (qM_i hm))) ?_
  rintro S2 m2 ⟨em2, hm2⟩
  change S2 = pI (bC M) m2 at em2; subst em2
  exact r_some (qM_i hm2)
def p_X0_in (a0 : Int) (a1 : Int) (a2 : Int) : Option Int :=
if a0 < a1 then (some (0))
else (if a2 < a0 then (some (0))
else (some (1)))
set_option maxHeartbeats 4000000 in
theorem rf_X0_in {pa0 : Int} {a0 : Int32} (ea0 : pa0 = a0.toInt) {pa1 : Int} {a1 : Int32} (ea1 : pa1 = a1.toInt) {pa2 : Int} {a2 : Int32} (ea2 : pa2 = a2.toInt) : pRf qI (p_X0_in pa0 pa1 pa2) (f_X0_in a0 a1 a2) := by
  subst ea0
  subst ea1
  subst ea2
  unfold p_X0_in f_X0_in
  refine r_ite (pc_lt rfl rfl) ?_ ?_
  · exact r_some (qI_i (eI (0 : Int32) (by decide)))
  · refine r_ite (pc_lt rfl rfl) ?_ ?_
    · exact r_some (qI_i (eI (0 : Int32) (by decide)))
    · exact r_some (qI_i (eI (1 : Int32) (by decide)))
def p_X0_many (S : zP) : Option Int :=
(pald S 2 7 0).bind fun v3 =>
some (v3)
set_option maxHeartbeats 4000000 in
theorem rf_X0_many {g : zGd} {M : Nat} {m0 : zMm} (hL : pLC g (zR m0) M) {m : zMm} (hm : pOk (bC M) m0 m) : pRf qI (p_X0_many (pI (bC M) m)) (f_X0_many g m (some ((bC M).1 + 0))) := by
  unfold p_X0_many f_X0_many
  refine r_gr (d := 1) hm (lc_o hL) (lc_f0 hL) ?_
  refine r_gr (d := 2) hm (ls_o (lc_s1 hL)) (ls_f0 (lc_s1 hL)) ?_
  refine r_ald (ls_k1 (lc_s1 hL)) (eI (0 : Int32) (by decide)) (fun _ => rfl) (fun v3 => ?_)
  exact r_some (qI_i rfl)
def pb_X1_tells_9 (o : Nat) (a1 : Int) (a2 : Int) : (Int × zP) → Option (zP ⊕ (Int × zP)) := fun (v6, S7) =>
(pald S7 (o + 1) 7 3).bind fun v9 =>
if v9 ≤ v6 then (some (.inl S7))
else ((pidx 30 v6).bind fun q1 =>
(past S7 (o + 39 + 1 + q1) 116 a1 a2).bind fun S12 =>
p32 (v6 + 1) fun v13 =>
some (.inr (v13, S12)))
set_option maxHeartbeats 4000000 in
theorem rb_X1_tells_9 {g : zGd} {M : Nat} {m0 : zMm} (hL : pLC g (zR m0) M) {o : Nat} (hs : pLS g (zR m0) (bC M).1 o) (hz : o = 1) {pa1 : Int} {a1 : Int32} (ea1 : pa1 = a1.toInt) {pa2 : Int} {a2 : Int32} (ea2 : pa2 = a2.toInt) : ∀ s t, (qP qI (qM (bC M) m0)) s t → pRf (qS (qM (bC M) m0) (qP qI (qM (bC M) m0))) (pb_X1_tells_9 o pa1 pa2 s) (b_X1_tells_9 g (some ((bC M).1 + o)) a1 a2 t) := by
  subst ea1
  subst ea2
  rintro ⟨pv6, S7⟩ ⟨v6, m7⟩ ⟨ev6, ⟨em7, hm7⟩⟩
  change pv6 = v6.toInt at ev6; subst ev6
  change S7 = pI (bC M) m7 at em7; subst em7
  unfold pb_X1_tells_9 b_X1_tells_9
  try dsimp only
  refine r_gr (d := (o + 1)) hm7 (ls_o hs) (ls_f0 hs) ?_
  refine r_ald (ls_k1 hs) (eI (3 : Int32) (by decide)) (fun _ => rfl) (fun v9 => ?_)
  refine r_ite (pc_le rfl rfl) ?_ ?_
  · exact r_some (qS_l (qM_i hm7))
  · refine r_gr (d := (o + 39)) hm7 (ls_o hs) (ls_f10 hs) ?_
    refine r_aldr (d := o + 39 + 1) hm7 (ls_k39 hs) rfl (ls_r39 hs) (fun q1 hq1 => ?_)
    refine r_ast hm7 ((ls_e39 hs) q1 hq1) hL.1 (wC (by have := hq1; omega)) rfl rfl (fun _ => rfl) (fun m12 hm12 => ?_)
    refine r_lt32 (px_add (px_v _) (px_n (1 : Int32) (by decide))) (fun v13 => ?_)
    exact r_some (qS_r (qP_i (qI_i rfl) (qM_i hm12)))
def p_X1_tells (S : zP) (o : Nat) (a1 : Int) (a2 : Int) : Option zP :=
(past S (o + 2) 116 a1 a2).bind fun S2 =>
(zLoop (pb_X1_tells_9 o a1 a2) zFuel (0, S2)).bind fun S4 =>
some (S4)
set_option maxHeartbeats 4000000 in
theorem rf_X1_tells {g : zGd} {M : Nat} {m0 : zMm} (hL : pLC g (zR m0) M) {m : zMm} (hm : pOk (bC M) m0 m) {o : Nat} (hs : pLS g (zR m0) (bC M).1 o) (hz : o = 1) {pa1 : Int} {a1 : Int32} (ea1 : pa1 = a1.toInt) {pa2 : Int} {a2 : Int32} (ea2 : pa2 = a2.toInt) : pRf (qM (bC M) m0) (p_X1_tells (pI (bC M) m) o pa1 pa2) (f_X1_tells g m (some ((bC M).1 + o)) a1 a2) := by
  subst ea1
  subst ea2
  unfold p_X1_tells f_X1_tells
  refine r_gr (d := (o + 2)) hm (ls_o hs) (ls_f1 hs) ?_
  refine r_ast hm (ls_k2 hs) hL.1 (wC (by omega)) rfl rfl (fun _ => rfl) (fun m2 hm2 => ?_)
  refine r_bind (A := (qM (bC M) m0)) (r_loop (rb_X1_tells_9 hL hs hz rfl rfl) zFuel _ _ (qP_i (qI_i (eI (0 : Int32) (by decide))) (qM_i hm2))) ?_
  rintro S4 m4 ⟨em4, hm4⟩
  change S4 = pI (bC M) m4 at em4; subst em4
  exact r_some (qM_i hm4)
def p_X0_kin (S : zP) (a1 : Int) (a2 : Int) : Option (Int × zP) :=
(p_X0_many S).bind fun v1 =>
(p_X0_in a1 0 9).bind fun v2 =>
if v2 = 0 then (some (((-1), S)))
else ((p_X0_in a2 0 99).bind fun v3 =>
if v3 = 0 then (some (((-1), S)))
else (if v1 = 6 then (some (((-1), S)))
else ((past S 4 6 v1 a1).bind fun S6 =>
(pald S6 2 7 0).bind fun v9 =>
p32 (v9 + 1) fun x1 =>
(past S6 2 7 0 x1).bind fun S10 =>
p32 (2 + v1) fun x2 =>
(p_X1_tells S10 1 x2 v1).bind fun S12 =>
p32 (8 + v1) fun x3 =>
(p_X1_tells S12 1 x3 a2).bind fun S14 =>
some ((v1, S14)))))
set_option maxHeartbeats 4000000 in
theorem rf_X0_kin {g : zGd} {M : Nat} {m0 : zMm} (hL : pLC g (zR m0) M) {m : zMm} (hm : pOk (bC M) m0 m) {pa1 : Int} {a1 : Int32} (ea1 : pa1 = a1.toInt) {pa2 : Int} {a2 : Int32} (ea2 : pa2 = a2.toInt) : pRf (qP qI (qM (bC M) m0)) (p_X0_kin (pI (bC M) m) pa1 pa2) (f_X0_kin g m (some ((bC M).1 + 0)) a1 a2) := by
  subst ea1
  subst ea2
  unfold p_X0_kin f_X0_kin
  refine r_bind (A := qI) (r_rc (B := (bC M)) (c := 0) (lc_o hL) (rf_X0_many hL hm)) ?_
  rintro pv1 v1 ev1
  change pv1 = v1.toInt at ev1; subst ev1
  refine r_bind (A := qI) (rf_X0_in rfl (eI (0 : Int32) (by decide)) (eI (9 : Int32) (by decide))) ?_
  rintro pv2 v2 ev2
  change pv2 = v2.toInt at ev2; subst ev2
  refine r_ite (pc_eq rfl (eI (0 : Int32) (by decide))) ?_ ?_
  · exact r_some (qP_i (qI_i (eI (-1 : Int32) (by decide))) (qM_i hm))
  · refine r_bind (A := qI) (rf_X0_in rfl (eI (0 : Int32) (by decide)) (eI (99 : Int32) (by decide))) ?_
    rintro pv3 v3 ev3
    change pv3 = v3.toInt at ev3; subst ev3
    refine r_ite (pc_eq rfl (eI (0 : Int32) (by decide))) ?_ ?_
    · exact r_some (qP_i (qI_i (eI (-1 : Int32) (by decide))) (qM_i hm))
    · refine r_ite (pc_eq rfl (eI (6 : Int32) (by decide))) ?_ ?_
      · exact r_some (qP_i (qI_i (eI (-1 : Int32) (by decide))) (qM_i hm))
      · refine r_gr (d := 1) hm (lc_o hL) (lc_f0 hL) ?_
        refine r_gr (d := 4) hm (ls_o (lc_s1 hL)) (ls_f2 (lc_s1 hL)) ?_
        refine r_ast hm (ls_k3 (lc_s1 hL)) hL.1 (wC (by omega)) rfl rfl (fun _ => rfl) (fun m6 hm6 => ?_)
        refine r_gr (d := 1) hm6 (lc_o hL) (lc_f0 hL) ?_
        refine r_gr (d := 2) hm6 (ls_o (lc_s1 hL)) (ls_f0 (lc_s1 hL)) ?_
        refine r_ald (ls_k1 (lc_s1 hL)) (eI (0 : Int32) (by decide)) (fun _ => rfl) (fun v9 => ?_)
        refine r_p32 (px_add (px_v _) (px_n (1 : Int32) (by decide))) ?_
        refine r_ast hm6 (ls_k1 (lc_s1 hL)) hL.1 (wC (by omega)) (eI (0 : Int32) (by decide)) rfl (fun _ => rfl) (fun m10 hm10 => ?_)
        refine r_gr (d := 1) hm10 (lc_o hL) (lc_f0 hL) ?_
        refine r_p32 (px_add (px_n (2 : Int32) (by decide)) (px_v _)) ?_
        refine r_bind (A := (qM (bC M) m0)) (r_rc (B := (bC M)) (c := 1) (ls_o (lc_s1 hL)) (rf_X1_tells hL hm10 (lc_s1 hL) rfl rfl rfl)) ?_
        rintro S12 m12 ⟨em12, hm12⟩
        change S12 = pI (bC M) m12 at em12; subst em12
        refine r_gr (d := 1) hm12 (lc_o hL) (lc_f0 hL) ?_
        refine r_p32 (px_add (px_n (8 : Int32) (by decide)) (px_v _)) ?_
        refine r_bind (A := (qM (bC M) m0)) (r_rc (B := (bC M)) (c := 1) (ls_o (lc_s1 hL)) (rf_X1_tells hL hm12 (lc_s1 hL) rfl rfl rfl)) ?_
        rintro S14 m14 ⟨em14, hm14⟩
        change S14 = pI (bC M) m14 at em14; subst em14
        exact r_some (qP_i (qI_i rfl) (qM_i hm14))
def pb_X0_put_3 (a1 : Int) : (Int × zP) → Option (zP ⊕ (Int × zP)) := fun (v4, S5) =>
if v4 < 0 then (some (.inl S5))
else (zlt (S5 0 3) fun v7 =>
zlt (pshr a1 v4) fun x1 =>
zlt (pi2b x1) fun x2 =>
zlt (pnb x2) fun x3 =>
(past S5 143 300 v7 x3).bind fun S8 =>
zlt (S8 0 3) fun v9 =>
p32 (v9 + 1) fun x4 =>
zlt (pup S8 0 3 x4) fun S10 =>
p32 (v4 + (-8)) fun v11 =>
some (.inr (v11, S10)))
set_option maxHeartbeats 4000000 in
theorem rb_X0_put_3 {g : zGd} {M : Nat} {m0 : zMm} (hL : pLC g (zR m0) M) {pa1 : Int} {a1 : Int32} (ea1 : pa1 = a1.toInt) : ∀ s t, (qP qI (qM (bC M) m0)) s t → pRf (qS (qM (bC M) m0) (qP qI (qM (bC M) m0))) (pb_X0_put_3 pa1 s) (b_X0_put_3 g (some ((bC M).1 + 0)) a1 t) := by
  subst ea1
  rintro ⟨pv4, S5⟩ ⟨v4, m5⟩ ⟨ev4, ⟨em5, hm5⟩⟩
  change pv4 = v4.toInt at ev4; subst ev4
  change S5 = pI (bC M) m5 at em5; subst em5
  unfold pb_X0_put_3 b_X0_put_3
  try dsimp only
  refine r_ite (pc_lt rfl (eI (0 : Int32) (by decide))) ?_ ?_
  · exact r_some (qS_l (qM_i hm5))
  · refine r_gr (d := 143) hm5 (lc_o hL) (lc_f2 hL) ?_
    refine r_gi (B := (bC M)) (c := 0) (i := 3) (lc_o hL) rfl rfl (fun v7 => ?_)
    refine r_x32 (pe_shr rfl rfl) ?_
    refine r_x32 (pe_i2b rfl) ?_
    refine r_x32 (pe_nb rfl) ?_
    refine r_ast hm5 (lc_k143 hL) hL.1 (wC (by omega)) rfl rfl (fun _ => rfl) (fun m8 hm8 => ?_)
    refine r_gi (B := (bC M)) (c := 0) (i := 3) (lc_o hL) rfl rfl (fun v9 => ?_)
    refine r_p32 (px_add (px_v _) (px_n (1 : Int32) (by decide))) ?_
    refine r_pi (B := (bC M)) (c := 0) (i := 3) hm8 (lc_o hL) hL.1 (wC (by omega)) rfl rfl rfl (fun m10 hm10 => ?_)
    refine r_lt32 (px_add (px_v _) (px_n (-8 : Int32) (by decide))) (fun v11 => ?_)
    exact r_some (qS_r (qP_i (qI_i rfl) (qM_i hm10)))
def p_X0_put (S : zP) (a1 : Int) : Option zP :=
(zLoop (pb_X0_put_3 a1) zFuel (24, S)).bind fun S2 =>
some (S2)
set_option maxHeartbeats 4000000 in
theorem rf_X0_put {g : zGd} {M : Nat} {m0 : zMm} (hL : pLC g (zR m0) M) {m : zMm} (hm : pOk (bC M) m0 m) {pa1 : Int} {a1 : Int32} (ea1 : pa1 = a1.toInt) : pRf (qM (bC M) m0) (p_X0_put (pI (bC M) m) pa1) (f_X0_put g m (some ((bC M).1 + 0)) a1) := by
  subst ea1
  unfold p_X0_put f_X0_put
  refine r_bind (A := (qM (bC M) m0)) (r_loop (rb_X0_put_3 hL rfl) zFuel _ _ (qP_i (qI_i (eI (24 : Int32) (by decide))) (qM_i hm))) ?_
  rintro S2 m2 ⟨em2, hm2⟩
  change S2 = pI (bC M) m2 at em2; subst em2
  exact r_some (qM_i hm2)
def p_X0_feed (S : zP) (a1 : Int) (a2 : Int) (a3 : Int) (a4 : Int) (a5 : Int) : Option (Int × zP) :=
zlt (S 0 3) fun v1 =>
p32 (v1 + 20) fun x1 =>
if x1 ≤ 300 then ((p_X0_put S a1).bind fun S2 =>
(p_X0_put S2 a2).bind fun S3 =>
(p_X0_put S3 a3).bind fun S4 =>
(p_X0_put S4 a4).bind fun S5 =>
(p_X0_put S5 a5).bind fun S6 =>
zlt (S6 0 3) fun v7 =>
some ((v7, S6)))
else (some (((-1), S)))
set_option maxHeartbeats 4000000 in
theorem rf_X0_feed {g : zGd} {M : Nat} {m0 : zMm} (hL : pLC g (zR m0) M) {m : zMm} (hm : pOk (bC M) m0 m) {pa1 : Int} {a1 : Int32} (ea1 : pa1 = a1.toInt) {pa2 : Int} {a2 : Int32} (ea2 : pa2 = a2.toInt) {pa3 : Int} {a3 : Int32} (ea3 : pa3 = a3.toInt) {pa4 : Int} {a4 : Int32} (ea4 : pa4 = a4.toInt) {pa5 : Int} {a5 : Int32} (ea5 : pa5 = a5.toInt) : pRf (qP qI (qM (bC M) m0)) (p_X0_feed (pI (bC M) m) pa1 pa2 pa3 pa4 pa5) (f_X0_feed g m (some ((bC M).1 + 0)) a1 a2 a3 a4 a5) := by
  subst ea1
  subst ea2
  subst ea3
  subst ea4
  subst ea5
  unfold p_X0_feed f_X0_feed
  refine r_gi (B := (bC M)) (c := 0) (i := 3) (lc_o hL) rfl rfl (fun v1 => ?_)
  refine r_p32 (px_add (px_v _) (px_n (20 : Int32) (by decide))) ?_
  refine r_ite (pc_le rfl (eI (300 : Int32) (by decide))) ?_ ?_
  · refine r_bind (A := (qM (bC M) m0)) (r_rc (B := (bC M)) (c := 0) (lc_o hL) (rf_X0_put hL hm rfl)) ?_
    rintro S2 m2 ⟨em2, hm2⟩
    change S2 = pI (bC M) m2 at em2; subst em2
    refine r_bind (A := (qM (bC M) m0)) (r_rc (B := (bC M)) (c := 0) (lc_o hL) (rf_X0_put hL hm2 rfl)) ?_
    rintro S3 m3 ⟨em3, hm3⟩
    change S3 = pI (bC M) m3 at em3; subst em3
    refine r_bind (A := (qM (bC M) m0)) (r_rc (B := (bC M)) (c := 0) (lc_o hL) (rf_X0_put hL hm3 rfl)) ?_
    rintro S4 m4 ⟨em4, hm4⟩
    change S4 = pI (bC M) m4 at em4; subst em4
    refine r_bind (A := (qM (bC M) m0)) (r_rc (B := (bC M)) (c := 0) (lc_o hL) (rf_X0_put hL hm4 rfl)) ?_
    rintro S5 m5 ⟨em5, hm5⟩
    change S5 = pI (bC M) m5 at em5; subst em5
    refine r_bind (A := (qM (bC M) m0)) (r_rc (B := (bC M)) (c := 0) (lc_o hL) (rf_X0_put hL hm5 rfl)) ?_
    rintro S6 m6 ⟨em6, hm6⟩
    change S6 = pI (bC M) m6 at em6; subst em6
    refine r_gi (B := (bC M)) (c := 0) (i := 3) (lc_o hL) rfl rfl (fun v7 => ?_)
    exact r_some (qP_i (qI_i rfl) (qM_i hm6))
  · exact r_some (qP_i (qI_i (eI (-1 : Int32) (by decide))) (qM_i hm))
def p_X0_end (S : zP) (a1 : Int) : Option (Int × zP) :=
zlt (S 0 3) fun v1 =>
(p_X0_in a1 0 v1).bind fun v2 =>
if v2 = 0 then (some (((-1), S)))
else (zlt (pup S 0 3 a1) fun S3 =>
some ((a1, S3)))
set_option maxHeartbeats 4000000 in
theorem rf_X0_end {g : zGd} {M : Nat} {m0 : zMm} (hL : pLC g (zR m0) M) {m : zMm} (hm : pOk (bC M) m0 m) {pa1 : Int} {a1 : Int32} (ea1 : pa1 = a1.toInt) : pRf (qP qI (qM (bC M) m0)) (p_X0_end (pI (bC M) m) pa1) (f_X0_end g m (some ((bC M).1 + 0)) a1) := by
  subst ea1
  unfold p_X0_end f_X0_end
  refine r_gi (B := (bC M)) (c := 0) (i := 3) (lc_o hL) rfl rfl (fun v1 => ?_)
  refine r_bind (A := qI) (rf_X0_in rfl (eI (0 : Int32) (by decide)) rfl) ?_
  rintro pv2 v2 ev2
  change pv2 = v2.toInt at ev2; subst ev2
  refine r_ite (pc_eq rfl (eI (0 : Int32) (by decide))) ?_ ?_
  · exact r_some (qP_i (qI_i (eI (-1 : Int32) (by decide))) (qM_i hm))
  · refine r_pi (B := (bC M)) (c := 0) (i := 3) hm (lc_o hL) hL.1 (wC (by omega)) rfl rfl rfl (fun m3 hm3 => ?_)
    exact r_some (qP_i (qI_i rfl) (qM_i hm3))
def p_X0_fault (S : zP) (a1 : Int) : Option Int :=
if a1 = 0 then (zlt (S 0 4) fun v2 =>
some (v2))
else (if a1 = 1 then (zlt (S 0 5) fun v1 =>
some (v1))
else (some ((-1))))
set_option maxHeartbeats 4000000 in
theorem rf_X0_fault {g : zGd} {M : Nat} {m0 : zMm} (hL : pLC g (zR m0) M) {m : zMm} (hm : pOk (bC M) m0 m) {pa1 : Int} {a1 : Int32} (ea1 : pa1 = a1.toInt) : pRf qI (p_X0_fault (pI (bC M) m) pa1) (f_X0_fault g m (some ((bC M).1 + 0)) a1) := by
  subst ea1
  unfold p_X0_fault f_X0_fault
  refine r_ite (pc_eq rfl (eI (0 : Int32) (by decide))) ?_ ?_
  · refine r_gi (B := (bC M)) (c := 0) (i := 4) (lc_o hL) rfl rfl (fun v2 => ?_)
    exact r_some (qI_i rfl)
  · refine r_ite (pc_eq rfl (eI (1 : Int32) (by decide))) ?_ ?_
    · refine r_gi (B := (bC M)) (c := 0) (i := 5) (lc_o hL) rfl rfl (fun v1 => ?_)
      exact r_some (qI_i rfl)
    · exact r_some (qI_i (eI (-1 : Int32) (by decide)))
def p_X0_isText (S : zP) (a1 : Int) : Option Int :=
(pald S 2 7 1).bind fun v3 =>
p32 (v3 - 1) fun x1 =>
(p_X0_in a1 0 x1).bind fun v4 =>
(pbo v4).bind fun z =>
some (z)
set_option maxHeartbeats 4000000 in
theorem rf_X0_isText {g : zGd} {M : Nat} {m0 : zMm} (hL : pLC g (zR m0) M) {m : zMm} (hm : pOk (bC M) m0 m) {pa1 : Int} {a1 : Int32} (ea1 : pa1 = a1.toInt) : pRf qI (p_X0_isText (pI (bC M) m) pa1) (f_X0_isText g m (some ((bC M).1 + 0)) a1) := by
  subst ea1
  unfold p_X0_isText f_X0_isText
  refine r_gr (d := 1) hm (lc_o hL) (lc_f0 hL) ?_
  refine r_gr (d := 2) hm (ls_o (lc_s1 hL)) (ls_f0 (lc_s1 hL)) ?_
  refine r_ald (ls_k1 (lc_s1 hL)) (eI (1 : Int32) (by decide)) (fun _ => rfl) (fun v3 => ?_)
  refine r_p32 (px_sub (px_v _) (px_n (1 : Int32) (by decide))) ?_
  refine r_bind (A := qI) (rf_X0_in rfl (eI (0 : Int32) (by decide)) rfl) ?_
  rintro pv4 v4 ev4
  change pv4 = v4.toInt at ev4; subst ev4
  refine r_bo rfl (fun z => ?_)
  exact r_some (qI_i rfl)
def p_X0_by (S : zP) (a1 : Int) : Option (Int × zP) :=
zEx (σ := Unit) (if a1 = (-1) then (some (.inr ()))
else ((p_X0_isText S a1).bind fun v2 =>
if v2 = 0 then (some (.inl (0, S)))
else (some (.inr ())))) fun _ =>
(past S 2 7 2 a1).bind fun S5 =>
some ((1, S5))
set_option maxHeartbeats 4000000 in
theorem rf_X0_by {g : zGd} {M : Nat} {m0 : zMm} (hL : pLC g (zR m0) M) {m : zMm} (hm : pOk (bC M) m0 m) {pa1 : Int} {a1 : Int32} (ea1 : pa1 = a1.toInt) : pRf (qP qI (qM (bC M) m0)) (p_X0_by (pI (bC M) m) pa1) (f_X0_by g m (some ((bC M).1 + 0)) a1) := by
  subst ea1
  unfold p_X0_by f_X0_by
  refine r_ex (Q := (qP qI (qM (bC M) m0))) (R := qU) ?_ ?_
  · refine r_ite (pc_eq rfl (eI (-1 : Int32) (by decide))) ?_ ?_
    · exact r_some (qS_r qU_i)
    · refine r_bind (A := qI) (r_rc (B := (bC M)) (c := 0) (lc_o hL) (rf_X0_isText hL hm rfl)) ?_
      rintro pv2 v2 ev2
      change pv2 = v2.toInt at ev2; subst ev2
      refine r_ite (pc_eq rfl (eI (0 : Int32) (by decide))) ?_ ?_
      · exact r_some (qS_l (qP_i (qI_i (eI (0 : Int32) (by decide))) (qM_i hm)))
      · exact r_some (qS_r qU_i)
  rintro _ _ _
  refine r_gr (d := 1) hm (lc_o hL) (lc_f0 hL) ?_
  refine r_gr (d := 2) hm (ls_o (lc_s1 hL)) (ls_f0 (lc_s1 hL)) ?_
  refine r_ast hm (ls_k1 (lc_s1 hL)) hL.1 (wC (by omega)) (eI (2 : Int32) (by decide)) rfl (fun _ => rfl) (fun m5 hm5 => ?_)
  exact r_some (qP_i (qI_i (eI (1 : Int32) (by decide))) (qM_i hm5))
def p_X0_has (a0 : Int) (a1 : Int) : Option Int :=
zlt (pshr a0 a1) fun x1 =>
zlt (pand x1 1) fun x2 =>
if x2 = 1 then (some (1))
else (some (0))
set_option maxHeartbeats 4000000 in
theorem rf_X0_has {pa0 : Int} {a0 : Int32} (ea0 : pa0 = a0.toInt) {pa1 : Int} {a1 : Int32} (ea1 : pa1 = a1.toInt) : pRf qI (p_X0_has pa0 pa1) (f_X0_has a0 a1) := by
  subst ea0
  subst ea1
  unfold p_X0_has f_X0_has
  refine r_x32 (pe_shr rfl rfl) ?_
  refine r_x32 (pe_and rfl (eI (1 : Int32) (by decide))) ?_
  refine r_ite (pc_eq rfl (eI (1 : Int32) (by decide))) ?_ ?_
  · exact r_some (qI_i (eI (1 : Int32) (by decide)))
  · exact r_some (qI_i (eI (0 : Int32) (by decide)))
def p_X0_isKin (S : zP) (a1 : Int) : Option Int :=
(p_X0_many S).bind fun v1 =>
p32 (v1 - 1) fun x1 =>
(p_X0_in a1 0 x1).bind fun v2 =>
(pbo v2).bind fun z =>
some (z)
set_option maxHeartbeats 4000000 in
theorem rf_X0_isKin {g : zGd} {M : Nat} {m0 : zMm} (hL : pLC g (zR m0) M) {m : zMm} (hm : pOk (bC M) m0 m) {pa1 : Int} {a1 : Int32} (ea1 : pa1 = a1.toInt) : pRf qI (p_X0_isKin (pI (bC M) m) pa1) (f_X0_isKin g m (some ((bC M).1 + 0)) a1) := by
  subst ea1
  unfold p_X0_isKin f_X0_isKin
  refine r_bind (A := qI) (r_rc (B := (bC M)) (c := 0) (lc_o hL) (rf_X0_many hL hm)) ?_
  rintro pv1 v1 ev1
  change pv1 = v1.toInt at ev1; subst ev1
  refine r_p32 (px_sub (px_v _) (px_n (1 : Int32) (by decide))) ?_
  refine r_bind (A := qI) (rf_X0_in rfl (eI (0 : Int32) (by decide)) rfl) ?_
  rintro pv2 v2 ev2
  change pv2 = v2.toInt at ev2; subst ev2
  refine r_bo rfl (fun z => ?_)
  exact r_some (qI_i rfl)
def p_X0_canReach (S : zP) (a1 : Int) : Option Int :=
(p_X0_isKin S a1).bind fun v1 =>
if v1 = 0 then (some (0))
else ((pald S 3 116 14).bind fun v4 =>
(p_X0_has v4 a1).bind fun v5 =>
if v5 = 0 then (some (1))
else (some (0)))
set_option maxHeartbeats 4000000 in
theorem rf_X0_canReach {g : zGd} {M : Nat} {m0 : zMm} (hL : pLC g (zR m0) M) {m : zMm} (hm : pOk (bC M) m0 m) {pa1 : Int} {a1 : Int32} (ea1 : pa1 = a1.toInt) : pRf qI (p_X0_canReach (pI (bC M) m) pa1) (f_X0_canReach g m (some ((bC M).1 + 0)) a1) := by
  subst ea1
  unfold p_X0_canReach f_X0_canReach
  refine r_bind (A := qI) (r_rc (B := (bC M)) (c := 0) (lc_o hL) (rf_X0_isKin hL hm rfl)) ?_
  rintro pv1 v1 ev1
  change pv1 = v1.toInt at ev1; subst ev1
  refine r_ite (pc_eq rfl (eI (0 : Int32) (by decide))) ?_ ?_
  · exact r_some (qI_i (eI (0 : Int32) (by decide)))
  · refine r_gr (d := 1) hm (lc_o hL) (lc_f0 hL) ?_
    refine r_gr (d := 3) hm (ls_o (lc_s1 hL)) (ls_f1 (lc_s1 hL)) ?_
    refine r_ald (ls_k2 (lc_s1 hL)) (eI (14 : Int32) (by decide)) (fun _ => rfl) (fun v4 => ?_)
    refine r_bind (A := qI) (rf_X0_has rfl rfl) ?_
    rintro pv5 v5 ev5
    change pv5 = v5.toInt at ev5; subst ev5
    refine r_ite (pc_eq rfl (eI (0 : Int32) (by decide))) ?_ ?_
    · exact r_some (qI_i (eI (1 : Int32) (by decide)))
    · exact r_some (qI_i (eI (0 : Int32) (by decide)))
def p_X0_reaches (S : zP) (ca0 na0 : Nat) (a1 : Int) : Option zP :=
p32 (8 + a1) fun x1 =>
(pald S ca0 na0 x1).bind fun v1 =>
p32 (v1 + 1) fun x2 =>
(p_J7_min 99 x2).bind fun v2 =>
(past S ca0 na0 x1 v2).bind fun S3 =>
some (S3)
set_option maxHeartbeats 4000000 in
theorem rf_X0_reaches {g : zGd} {M : Nat} {m0 : zMm} (hL : pLC g (zR m0) M) {m : zMm} (hm : pOk (bC M) m0 m) {ca0 na0 : Nat} (ka0 : zK g ((bC M).1 + ca0) = (101, na0)) (za0 : ∀ i, (bC M).2.2 ca0 i) {pa1 : Int} {a1 : Int32} (ea1 : pa1 = a1.toInt) : pRf (qM (bC M) m0) (p_X0_reaches (pI (bC M) m) ca0 na0 pa1) (f_X0_reaches g m (some ((bC M).1 + ca0)) a1) := by
  subst ea1
  unfold p_X0_reaches f_X0_reaches
  refine r_p32 (px_add (px_n (8 : Int32) (by decide)) (px_v _)) ?_
  refine r_ald ka0 rfl (fun _ => rfl) (fun v1 => ?_)
  refine r_p32 (px_add (px_v _) (px_n (1 : Int32) (by decide))) ?_
  refine r_bind (A := qI) (rf_J7_min (eI (99 : Int32) (by decide)) rfl) ?_
  rintro pv2 v2 ev2
  change pv2 = v2.toInt at ev2; subst ev2
  refine r_ast hm ka0 hL.1 (za0 _) rfl rfl (fun _ => rfl) (fun m3 hm3 => ?_)
  exact r_some (qM_i hm3)
def pb_X1_keeps_13 (o : Nat) : (Int × zP) → Option (zP ⊕ (Int × zP)) := fun (v8, S9) =>
if 30 ≤ v8 then (some (.inl S9))
else ((pidx 30 v8).bind fun q1 =>
p32 (v8 - 1) fun x2 =>
(pidx 30 x2).bind fun q3 =>
(p_X1_copy S9 (o + 39 + 1 + q1) 116 (o + 39 + 1 + q3) 116).bind fun S14 =>
p32 (v8 + 1) fun v15 =>
some (.inr (v15, S14)))
set_option maxHeartbeats 4000000 in
theorem rb_X1_keeps_13 {g : zGd} {M : Nat} {m0 : zMm} (hL : pLC g (zR m0) M) {o : Nat} (hs : pLS g (zR m0) (bC M).1 o) (hz : o = 1) : ∀ s t, (qP qI (qM (bC M) m0)) s t → pRf (qS (qM (bC M) m0) (qP qI (qM (bC M) m0))) (pb_X1_keeps_13 o s) (b_X1_keeps_13 g (some ((bC M).1 + o)) t) := by
  rintro ⟨pv8, S9⟩ ⟨v8, m9⟩ ⟨ev8, ⟨em9, hm9⟩⟩
  change pv8 = v8.toInt at ev8; subst ev8
  change S9 = pI (bC M) m9 at em9; subst em9
  unfold pb_X1_keeps_13 b_X1_keeps_13
  try dsimp only
  refine r_ite (pc_le (eI (30 : Int32) (by decide)) rfl) ?_ ?_
  · exact r_some (qS_l (qM_i hm9))
  · refine r_gr (d := (o + 39)) hm9 (ls_o hs) (ls_f10 hs) ?_
    refine r_aldr (d := o + 39 + 1) hm9 (ls_k39 hs) rfl (ls_r39 hs) (fun q1 hq1 => ?_)
    refine r_gr (d := (o + 39)) hm9 (ls_o hs) (ls_f10 hs) ?_
    refine r_p32 (px_sub (px_v _) (px_n (1 : Int32) (by decide))) ?_
    refine r_aldr (d := o + 39 + 1) hm9 (ls_k39 hs) rfl (ls_r39 hs) (fun q3 hq3 => ?_)
    refine r_bind (A := (qM (bC M) m0)) (rf_X1_copy hL hm9 ((ls_e39 hs) q1 hq1) (fun _ => wC (by have := hq1; omega)) (by decide) ((ls_e39 hs) q3 hq3) (fun _ => wC (by have := hq3; omega)) (by decide)) ?_
    rintro S14 m14 ⟨em14, hm14⟩
    change S14 = pI (bC M) m14 at em14; subst em14
    refine r_lt32 (px_add (px_v _) (px_n (1 : Int32) (by decide))) (fun v15 => ?_)
    exact r_some (qS_r (qP_i (qI_i rfl) (qM_i hm14)))
def p_X1_keeps (S : zP) (o : Nat) : Option zP :=
(pald S (o + 1) 7 3).bind fun v2 =>
((if v2 = 30 then ((zLoop (pb_X1_keeps_13 o) zFuel (1, S)).bind fun S6 =>
(pald S6 (o + 1) 7 3).bind fun v17 =>
p32 (v17 - 1) fun x1 =>
(past S6 (o + 1) 7 3 x1).bind fun S18 =>
some (S18))
else (some (S)) : Option zP)).bind fun S4 =>
(pald S4 (o + 1) 7 3).bind fun v22 =>
(pidx 30 v22).bind fun q2 =>
(p_X1_copy S4 (o + 2) 116 (o + 39 + 1 + q2) 116).bind fun S24 =>
(pald S24 (o + 1) 7 3).bind fun v26 =>
p32 (v26 + 1) fun x3 =>
(past S24 (o + 1) 7 3 x3).bind fun S27 =>
some (S27)
set_option maxHeartbeats 4000000 in
theorem rf_X1_keeps {g : zGd} {M : Nat} {m0 : zMm} (hL : pLC g (zR m0) M) {m : zMm} (hm : pOk (bC M) m0 m) {o : Nat} (hs : pLS g (zR m0) (bC M).1 o) (hz : o = 1) : pRf (qM (bC M) m0) (p_X1_keeps (pI (bC M) m) o) (f_X1_keeps g m (some ((bC M).1 + o))) := by
  unfold p_X1_keeps f_X1_keeps
  refine r_gr (d := (o + 1)) hm (ls_o hs) (ls_f0 hs) ?_
  refine r_ald (ls_k1 hs) (eI (3 : Int32) (by decide)) (fun _ => rfl) (fun v2 => ?_)
  refine r_bind (A := (qM (bC M) m0)) ?_ ?_
  · refine r_ite (pc_eq rfl (eI (30 : Int32) (by decide))) ?_ ?_
    · refine r_bind (A := (qM (bC M) m0)) (r_loop (rb_X1_keeps_13 hL hs hz) zFuel _ _ (qP_i (qI_i (eI (1 : Int32) (by decide))) (qM_i hm))) ?_
      rintro S6 m6 ⟨em6, hm6⟩
      change S6 = pI (bC M) m6 at em6; subst em6
      refine r_gr (d := (o + 1)) hm6 (ls_o hs) (ls_f0 hs) ?_
      refine r_ald (ls_k1 hs) (eI (3 : Int32) (by decide)) (fun _ => rfl) (fun v17 => ?_)
      refine r_p32 (px_sub (px_v _) (px_n (1 : Int32) (by decide))) ?_
      refine r_ast hm6 (ls_k1 hs) hL.1 (wC (by omega)) (eI (3 : Int32) (by decide)) rfl (fun _ => rfl) (fun m18 hm18 => ?_)
      exact r_some (qM_i hm18)
    · exact r_some (qM_i hm)
  rintro S4 m4 ⟨em4, hm4⟩
  change S4 = pI (bC M) m4 at em4; subst em4
  refine r_gr (d := (o + 2)) hm4 (ls_o hs) (ls_f1 hs) ?_
  refine r_gr (d := (o + 39)) hm4 (ls_o hs) (ls_f10 hs) ?_
  refine r_gr (d := (o + 1)) hm4 (ls_o hs) (ls_f0 hs) ?_
  refine r_ald (ls_k1 hs) (eI (3 : Int32) (by decide)) (fun _ => rfl) (fun v22 => ?_)
  refine r_aldr (d := o + 39 + 1) hm4 (ls_k39 hs) rfl (ls_r39 hs) (fun q2 hq2 => ?_)
  refine r_bind (A := (qM (bC M) m0)) (rf_X1_copy hL hm4 (ls_k2 hs) (fun _ => wC (by omega)) (by decide) ((ls_e39 hs) q2 hq2) (fun _ => wC (by have := hq2; omega)) (by decide)) ?_
  rintro S24 m24 ⟨em24, hm24⟩
  change S24 = pI (bC M) m24 at em24; subst em24
  refine r_gr (d := (o + 1)) hm24 (ls_o hs) (ls_f0 hs) ?_
  refine r_ald (ls_k1 hs) (eI (3 : Int32) (by decide)) (fun _ => rfl) (fun v26 => ?_)
  refine r_p32 (px_add (px_v _) (px_n (1 : Int32) (by decide))) ?_
  refine r_ast hm24 (ls_k1 hs) hL.1 (wC (by omega)) (eI (3 : Int32) (by decide)) rfl (fun _ => rfl) (fun m27 hm27 => ?_)
  exact r_some (qM_i hm27)
def p_X0_reach (S : zP) (a1 : Int) : Option (Int × zP) :=
(p_X0_canReach S a1).bind fun v1 =>
if v1 = 0 then (some (((-1), S)))
else ((p_X1_keeps S 1).bind fun S3 =>
(p_X0_reaches S3 3 116 a1).bind fun S6 =>
p32 (8 + a1) fun x1 =>
(pald S6 3 116 x1).bind fun v9 =>
some ((v9, S6)))
set_option maxHeartbeats 4000000 in
theorem rf_X0_reach {g : zGd} {M : Nat} {m0 : zMm} (hL : pLC g (zR m0) M) {m : zMm} (hm : pOk (bC M) m0 m) {pa1 : Int} {a1 : Int32} (ea1 : pa1 = a1.toInt) : pRf (qP qI (qM (bC M) m0)) (p_X0_reach (pI (bC M) m) pa1) (f_X0_reach g m (some ((bC M).1 + 0)) a1) := by
  subst ea1
  unfold p_X0_reach f_X0_reach
  refine r_bind (A := qI) (r_rc (B := (bC M)) (c := 0) (lc_o hL) (rf_X0_canReach hL hm rfl)) ?_
  rintro pv1 v1 ev1
  change pv1 = v1.toInt at ev1; subst ev1
  refine r_ite (pc_eq rfl (eI (0 : Int32) (by decide))) ?_ ?_
  · exact r_some (qP_i (qI_i (eI (-1 : Int32) (by decide))) (qM_i hm))
  · refine r_gr (d := 1) hm (lc_o hL) (lc_f0 hL) ?_
    refine r_bind (A := (qM (bC M) m0)) (r_rc (B := (bC M)) (c := 1) (ls_o (lc_s1 hL)) (rf_X1_keeps hL hm (lc_s1 hL) rfl)) ?_
    rintro S3 m3 ⟨em3, hm3⟩
    change S3 = pI (bC M) m3 at em3; subst em3
    refine r_gr (d := 1) hm3 (lc_o hL) (lc_f0 hL) ?_
    refine r_gr (d := 3) hm3 (ls_o (lc_s1 hL)) (ls_f1 (lc_s1 hL)) ?_
    refine r_bind (A := (qM (bC M) m0)) (rf_X0_reaches hL hm3 (ls_k2 (lc_s1 hL)) (fun _ => wC (by omega)) rfl) ?_
    rintro S6 m6 ⟨em6, hm6⟩
    change S6 = pI (bC M) m6 at em6; subst em6
    refine r_gr (d := 1) hm6 (lc_o hL) (lc_f0 hL) ?_
    refine r_gr (d := 3) hm6 (ls_o (lc_s1 hL)) (ls_f1 (lc_s1 hL)) ?_
    refine r_p32 (px_add (px_n (8 : Int32) (by decide)) (px_v _)) ?_
    refine r_ald (ls_k2 (lc_s1 hL)) rfl (fun _ => rfl) (fun v9 => ?_)
    exact r_some (qP_i (qI_i rfl) (qM_i hm6))
def p_X0_canPut (S : zP) (a1 : Int) (a2 : Int) : Option Int :=
(p_X0_isKin S a1).bind fun v1 =>
if v1 = 0 then (some (0))
else (p32 (8 + a1) fun x1 =>
(pald S 3 116 x1).bind fun v4 =>
if v4 < a2 then (some (0))
else (some (1)))
set_option maxHeartbeats 4000000 in
theorem rf_X0_canPut {g : zGd} {M : Nat} {m0 : zMm} (hL : pLC g (zR m0) M) {m : zMm} (hm : pOk (bC M) m0 m) {pa1 : Int} {a1 : Int32} (ea1 : pa1 = a1.toInt) {pa2 : Int} {a2 : Int32} (ea2 : pa2 = a2.toInt) : pRf qI (p_X0_canPut (pI (bC M) m) pa1 pa2) (f_X0_canPut g m (some ((bC M).1 + 0)) a1 a2) := by
  subst ea1
  subst ea2
  unfold p_X0_canPut f_X0_canPut
  refine r_bind (A := qI) (r_rc (B := (bC M)) (c := 0) (lc_o hL) (rf_X0_isKin hL hm rfl)) ?_
  rintro pv1 v1 ev1
  change pv1 = v1.toInt at ev1; subst ev1
  refine r_ite (pc_eq rfl (eI (0 : Int32) (by decide))) ?_ ?_
  · exact r_some (qI_i (eI (0 : Int32) (by decide)))
  · refine r_gr (d := 1) hm (lc_o hL) (lc_f0 hL) ?_
    refine r_gr (d := 3) hm (ls_o (lc_s1 hL)) (ls_f1 (lc_s1 hL)) ?_
    refine r_p32 (px_add (px_n (8 : Int32) (by decide)) (px_v _)) ?_
    refine r_ald (ls_k2 (lc_s1 hL)) rfl (fun _ => rfl) (fun v4 => ?_)
    refine r_ite (pc_lt rfl rfl) ?_ ?_
    · exact r_some (qI_i (eI (0 : Int32) (by decide)))
    · exact r_some (qI_i (eI (1 : Int32) (by decide)))
def p_X0_down (S : zP) (a1 : Int) (a2 : Int) : Option (Int × zP) :=
(p_X0_in a2 1 99).bind fun v1 =>
if v1 = 0 then (some ((0, S)))
else ((p_X0_canPut S a1 a2).bind fun v2 =>
if v2 = 0 then (some ((0, S)))
else ((p_X1_keeps S 1).bind fun S4 =>
p32 (8 + a1) fun v7 =>
(pald S4 3 116 v7).bind fun v8 =>
p32 (v8 - a2) fun x1 =>
(past S4 3 116 v7 x1).bind fun S9 =>
some ((1, S9))))
set_option maxHeartbeats 4000000 in
theorem rf_X0_down {g : zGd} {M : Nat} {m0 : zMm} (hL : pLC g (zR m0) M) {m : zMm} (hm : pOk (bC M) m0 m) {pa1 : Int} {a1 : Int32} (ea1 : pa1 = a1.toInt) {pa2 : Int} {a2 : Int32} (ea2 : pa2 = a2.toInt) : pRf (qP qI (qM (bC M) m0)) (p_X0_down (pI (bC M) m) pa1 pa2) (f_X0_down g m (some ((bC M).1 + 0)) a1 a2) := by
  subst ea1
  subst ea2
  unfold p_X0_down f_X0_down
  refine r_bind (A := qI) (rf_X0_in rfl (eI (1 : Int32) (by decide)) (eI (99 : Int32) (by decide))) ?_
  rintro pv1 v1 ev1
  change pv1 = v1.toInt at ev1; subst ev1
  refine r_ite (pc_eq rfl (eI (0 : Int32) (by decide))) ?_ ?_
  · exact r_some (qP_i (qI_i (eI (0 : Int32) (by decide))) (qM_i hm))
  · refine r_bind (A := qI) (r_rc (B := (bC M)) (c := 0) (lc_o hL) (rf_X0_canPut hL hm rfl rfl)) ?_
    rintro pv2 v2 ev2
    change pv2 = v2.toInt at ev2; subst ev2
    refine r_ite (pc_eq rfl (eI (0 : Int32) (by decide))) ?_ ?_
    · exact r_some (qP_i (qI_i (eI (0 : Int32) (by decide))) (qM_i hm))
    · refine r_gr (d := 1) hm (lc_o hL) (lc_f0 hL) ?_
      refine r_bind (A := (qM (bC M) m0)) (r_rc (B := (bC M)) (c := 1) (ls_o (lc_s1 hL)) (rf_X1_keeps hL hm (lc_s1 hL) rfl)) ?_
      rintro S4 m4 ⟨em4, hm4⟩
      change S4 = pI (bC M) m4 at em4; subst em4
      refine r_gr (d := 1) hm4 (lc_o hL) (lc_f0 hL) ?_
      refine r_gr (d := 3) hm4 (ls_o (lc_s1 hL)) (ls_f1 (lc_s1 hL)) ?_
      refine r_lt32 (px_add (px_n (8 : Int32) (by decide)) (px_v _)) (fun v7 => ?_)
      refine r_ald (ls_k2 (lc_s1 hL)) rfl (fun _ => rfl) (fun v8 => ?_)
      refine r_p32 (px_sub (px_v _) (px_v _)) ?_
      refine r_ast hm4 (ls_k2 (lc_s1 hL)) hL.1 (wC (by omega)) rfl rfl (fun _ => rfl) (fun m9 hm9 => ?_)
      exact r_some (qP_i (qI_i (eI (1 : Int32) (by decide))) (qM_i hm9))
def p_X0_strap (S : zP) (a1 : Int) : Option (Int × zP) :=
(p_X0_isKin S a1).bind fun v1 =>
if v1 = 0 then (some ((0, S)))
else ((p_X1_keeps S 1).bind fun S3 =>
(pald S3 3 116 14).bind fun v6 =>
zlt (pshl 1 a1) fun x1 =>
zlt (pxor v6 x1) fun x2 =>
(past S3 3 116 14 x2).bind fun S7 =>
some ((1, S7)))
set_option maxHeartbeats 4000000 in
theorem rf_X0_strap {g : zGd} {M : Nat} {m0 : zMm} (hL : pLC g (zR m0) M) {m : zMm} (hm : pOk (bC M) m0 m) {pa1 : Int} {a1 : Int32} (ea1 : pa1 = a1.toInt) : pRf (qP qI (qM (bC M) m0)) (p_X0_strap (pI (bC M) m) pa1) (f_X0_strap g m (some ((bC M).1 + 0)) a1) := by
  subst ea1
  unfold p_X0_strap f_X0_strap
  refine r_bind (A := qI) (r_rc (B := (bC M)) (c := 0) (lc_o hL) (rf_X0_isKin hL hm rfl)) ?_
  rintro pv1 v1 ev1
  change pv1 = v1.toInt at ev1; subst ev1
  refine r_ite (pc_eq rfl (eI (0 : Int32) (by decide))) ?_ ?_
  · exact r_some (qP_i (qI_i (eI (0 : Int32) (by decide))) (qM_i hm))
  · refine r_gr (d := 1) hm (lc_o hL) (lc_f0 hL) ?_
    refine r_bind (A := (qM (bC M) m0)) (r_rc (B := (bC M)) (c := 1) (ls_o (lc_s1 hL)) (rf_X1_keeps hL hm (lc_s1 hL) rfl)) ?_
    rintro S3 m3 ⟨em3, hm3⟩
    change S3 = pI (bC M) m3 at em3; subst em3
    refine r_gr (d := 1) hm3 (lc_o hL) (lc_f0 hL) ?_
    refine r_gr (d := 3) hm3 (ls_o (lc_s1 hL)) (ls_f1 (lc_s1 hL)) ?_
    refine r_ald (ls_k2 (lc_s1 hL)) (eI (14 : Int32) (by decide)) (fun _ => rfl) (fun v6 => ?_)
    refine r_x32 (pe_shl (eI (1 : Int32) (by decide)) rfl) ?_
    refine r_x32 (pe_xor rfl rfl) ?_
    refine r_ast hm3 (ls_k2 (lc_s1 hL)) hL.1 (wC (by omega)) (eI (14 : Int32) (by decide)) rfl (fun _ => rfl) (fun m7 hm7 => ?_)
    exact r_some (qP_i (qI_i (eI (1 : Int32) (by decide))) (qM_i hm7))
def p_X0_canSwap (S : zP) (a1 : Int) (a2 : Int) : Option Int :=
(p_X0_isKin S a1).bind fun v1 =>
if v1 = 0 then (some (0))
else ((p_X0_isKin S a2).bind fun v2 =>
if v2 = 0 then (some (0))
else (if a1 = a2 then (some (0))
else (some (1))))
set_option maxHeartbeats 4000000 in
theorem rf_X0_canSwap {g : zGd} {M : Nat} {m0 : zMm} (hL : pLC g (zR m0) M) {m : zMm} (hm : pOk (bC M) m0 m) {pa1 : Int} {a1 : Int32} (ea1 : pa1 = a1.toInt) {pa2 : Int} {a2 : Int32} (ea2 : pa2 = a2.toInt) : pRf qI (p_X0_canSwap (pI (bC M) m) pa1 pa2) (f_X0_canSwap g m (some ((bC M).1 + 0)) a1 a2) := by
  subst ea1
  subst ea2
  unfold p_X0_canSwap f_X0_canSwap
  refine r_bind (A := qI) (r_rc (B := (bC M)) (c := 0) (lc_o hL) (rf_X0_isKin hL hm rfl)) ?_
  rintro pv1 v1 ev1
  change pv1 = v1.toInt at ev1; subst ev1
  refine r_ite (pc_eq rfl (eI (0 : Int32) (by decide))) ?_ ?_
  · exact r_some (qI_i (eI (0 : Int32) (by decide)))
  · refine r_bind (A := qI) (r_rc (B := (bC M)) (c := 0) (lc_o hL) (rf_X0_isKin hL hm rfl)) ?_
    rintro pv2 v2 ev2
    change pv2 = v2.toInt at ev2; subst ev2
    refine r_ite (pc_eq rfl (eI (0 : Int32) (by decide))) ?_ ?_
    · exact r_some (qI_i (eI (0 : Int32) (by decide)))
    · refine r_ite (pc_eq rfl rfl) ?_ ?_
      · exact r_some (qI_i (eI (0 : Int32) (by decide)))
      · exact r_some (qI_i (eI (1 : Int32) (by decide)))
def pb_X0_seatOf_2 (S : zP) (ca1 na1 : Nat) (a2 : Int) : Int → Option (Int ⊕ Int) := fun v4 =>
p32 (2 + v4) fun x1 =>
(pald S ca1 na1 x1).bind fun v5 =>
if v5 = a2 then (some (.inl v4))
else (p32 (v4 + 1) fun v6 =>
some (.inr v6))
set_option maxHeartbeats 4000000 in
theorem rb_X0_seatOf_2 {g : zGd} {M : Nat} {m0 : zMm} (hL : pLC g (zR m0) M) {m : zMm} (hm : pOk (bC M) m0 m) {ca1 na1 : Nat} (ka1 : zK g ((bC M).1 + ca1) = (101, na1)) (za1 : ∀ i, (bC M).2.2 ca1 i) {pa2 : Int} {a2 : Int32} (ea2 : pa2 = a2.toInt) : ∀ s t, qI s t → pRf (qS qI qI) (pb_X0_seatOf_2 (pI (bC M) m) ca1 na1 pa2 s) (b_X0_seatOf_2 g m (some ((bC M).1 + ca1)) a2 t) := by
  subst ea2
  rintro pv4 v4 ev4
  change pv4 = v4.toInt at ev4; subst ev4
  unfold pb_X0_seatOf_2 b_X0_seatOf_2
  try dsimp only
  refine r_p32 (px_add (px_n (2 : Int32) (by decide)) (px_v _)) ?_
  refine r_ald ka1 rfl (fun _ => rfl) (fun v5 => ?_)
  refine r_ite (pc_eq rfl rfl) ?_ ?_
  · exact r_some (qS_l (qI_i rfl))
  · refine r_lt32 (px_add (px_v _) (px_n (1 : Int32) (by decide))) (fun v6 => ?_)
    exact r_some (qS_r (qI_i rfl))
def p_X0_seatOf (S : zP) (ca1 na1 : Nat) (a2 : Int) : Option Int :=
(zLoop (pb_X0_seatOf_2 S ca1 na1 a2) zFuel 0).bind fun v2 =>
some (v2)
set_option maxHeartbeats 4000000 in
theorem rf_X0_seatOf {g : zGd} {M : Nat} {m0 : zMm} (hL : pLC g (zR m0) M) {m : zMm} (hm : pOk (bC M) m0 m) {ca1 na1 : Nat} (ka1 : zK g ((bC M).1 + ca1) = (101, na1)) (za1 : ∀ i, (bC M).2.2 ca1 i) {pa2 : Int} {a2 : Int32} (ea2 : pa2 = a2.toInt) : pRf qI (p_X0_seatOf (pI (bC M) m) ca1 na1 pa2) (f_X0_seatOf g m (some ((bC M).1 + 0)) (some ((bC M).1 + ca1)) a2) := by
  subst ea2
  unfold p_X0_seatOf f_X0_seatOf
  refine r_bind (A := qI) (r_loop (rb_X0_seatOf_2 hL hm ka1 za1 rfl) zFuel _ _ (qI_i (eI (0 : Int32) (by decide)))) ?_
  rintro pv2 v2 ev2
  change pv2 = v2.toInt at ev2; subst ev2
  exact r_some (qI_i rfl)
def p_X0_swaps (S : zP) (ca0 na0 : Nat) (a1 : Int) (a2 : Int) : Option zP :=
p32 (2 + a1) fun x1 =>
(pald S ca0 na0 x1).bind fun v1 =>
p32 (2 + a2) fun x2 =>
(pald S ca0 na0 x2).bind fun v2 =>
(past S ca0 na0 x1 v2).bind fun S3 =>
(past S3 ca0 na0 x2 v1).bind fun S4 =>
some (S4)
set_option maxHeartbeats 4000000 in
theorem rf_X0_swaps {g : zGd} {M : Nat} {m0 : zMm} (hL : pLC g (zR m0) M) {m : zMm} (hm : pOk (bC M) m0 m) {ca0 na0 : Nat} (ka0 : zK g ((bC M).1 + ca0) = (101, na0)) (za0 : ∀ i, (bC M).2.2 ca0 i) {pa1 : Int} {a1 : Int32} (ea1 : pa1 = a1.toInt) {pa2 : Int} {a2 : Int32} (ea2 : pa2 = a2.toInt) : pRf (qM (bC M) m0) (p_X0_swaps (pI (bC M) m) ca0 na0 pa1 pa2) (f_X0_swaps g m (some ((bC M).1 + ca0)) a1 a2) := by
  subst ea1
  subst ea2
  unfold p_X0_swaps f_X0_swaps
  refine r_p32 (px_add (px_n (2 : Int32) (by decide)) (px_v _)) ?_
  refine r_ald ka0 rfl (fun _ => rfl) (fun v1 => ?_)
  refine r_p32 (px_add (px_n (2 : Int32) (by decide)) (px_v _)) ?_
  refine r_ald ka0 rfl (fun _ => rfl) (fun v2 => ?_)
  refine r_ast hm ka0 hL.1 (za0 _) rfl rfl (fun _ => rfl) (fun m3 hm3 => ?_)
  refine r_ast hm3 ka0 hL.1 (za0 _) rfl rfl (fun _ => rfl) (fun m4 hm4 => ?_)
  exact r_some (qM_i hm4)
def p_X0_swap (S : zP) (a1 : Int) (a2 : Int) : Option (Int × zP) :=
(p_X0_canSwap S a1 a2).bind fun v1 =>
if v1 = 0 then (some ((0, S)))
else ((p_X1_keeps S 1).bind fun S3 =>
(p_X0_seatOf S3 3 116 a1).bind fun v8 =>
(p_X0_seatOf S3 3 116 a2).bind fun v11 =>
(p_X0_swaps S3 3 116 v8 v11).bind fun S12 =>
some ((1, S12)))
set_option maxHeartbeats 4000000 in
theorem rf_X0_swap {g : zGd} {M : Nat} {m0 : zMm} (hL : pLC g (zR m0) M) {m : zMm} (hm : pOk (bC M) m0 m) {pa1 : Int} {a1 : Int32} (ea1 : pa1 = a1.toInt) {pa2 : Int} {a2 : Int32} (ea2 : pa2 = a2.toInt) : pRf (qP qI (qM (bC M) m0)) (p_X0_swap (pI (bC M) m) pa1 pa2) (f_X0_swap g m (some ((bC M).1 + 0)) a1 a2) := by
  subst ea1
  subst ea2
  unfold p_X0_swap f_X0_swap
  refine r_bind (A := qI) (r_rc (B := (bC M)) (c := 0) (lc_o hL) (rf_X0_canSwap hL hm rfl rfl)) ?_
  rintro pv1 v1 ev1
  change pv1 = v1.toInt at ev1; subst ev1
  refine r_ite (pc_eq rfl (eI (0 : Int32) (by decide))) ?_ ?_
  · exact r_some (qP_i (qI_i (eI (0 : Int32) (by decide))) (qM_i hm))
  · refine r_gr (d := 1) hm (lc_o hL) (lc_f0 hL) ?_
    refine r_bind (A := (qM (bC M) m0)) (r_rc (B := (bC M)) (c := 1) (ls_o (lc_s1 hL)) (rf_X1_keeps hL hm (lc_s1 hL) rfl)) ?_
    rintro S3 m3 ⟨em3, hm3⟩
    change S3 = pI (bC M) m3 at em3; subst em3
    refine r_gr (d := 1) hm3 (lc_o hL) (lc_f0 hL) ?_
    refine r_gr (d := 3) hm3 (ls_o (lc_s1 hL)) (ls_f1 (lc_s1 hL)) ?_
    refine r_gr (d := 1) hm3 (lc_o hL) (lc_f0 hL) ?_
    refine r_gr (d := 3) hm3 (ls_o (lc_s1 hL)) (ls_f1 (lc_s1 hL)) ?_
    refine r_bind (A := qI) (r_rc (B := (bC M)) (c := 0) (lc_o hL) (rf_X0_seatOf hL hm3 (ls_k2 (lc_s1 hL)) (fun _ => wC (by omega)) rfl)) ?_
    rintro pv8 v8 ev8
    change pv8 = v8.toInt at ev8; subst ev8
    refine r_gr (d := 1) hm3 (lc_o hL) (lc_f0 hL) ?_
    refine r_gr (d := 3) hm3 (ls_o (lc_s1 hL)) (ls_f1 (lc_s1 hL)) ?_
    refine r_bind (A := qI) (r_rc (B := (bC M)) (c := 0) (lc_o hL) (rf_X0_seatOf hL hm3 (ls_k2 (lc_s1 hL)) (fun _ => wC (by omega)) rfl)) ?_
    rintro pv11 v11 ev11
    change pv11 = v11.toInt at ev11; subst ev11
    refine r_bind (A := (qM (bC M) m0)) (rf_X0_swaps hL hm3 (ls_k2 (lc_s1 hL)) (fun _ => wC (by omega)) rfl rfl) ?_
    rintro S12 m12 ⟨em12, hm12⟩
    change S12 = pI (bC M) m12 at em12; subst em12
    exact r_some (qP_i (qI_i (eI (1 : Int32) (by decide))) (qM_i hm12))
def p_X0_held (a0 : Int) (a2 : Int) (a3 : Int) : Option Int :=
(p_J7_min_2 a3 a0).bind fun w1 =>
(p_J7_max_2 a2 w1).bind fun w2 =>
p32 w2 fun x1 =>
some (x1)
set_option maxHeartbeats 4000000 in
theorem rf_X0_held {pa0 : Int} {a0 : Int64} (ea0 : pa0 = a0.toInt) {pa2 : Int} {a2 : Int32} (ea2 : pa2 = a2.toInt) {pa3 : Int} {a3 : Int32} (ea3 : pa3 = a3.toInt) : pRf qI (p_X0_held pa0 pa2 pa3) (f_X0_held a0 a2 a3) := by
  subst ea0
  subst ea2
  subst ea3
  unfold p_X0_held f_X0_held
  refine r_bind (A := qJ) (rf_J7_min_2 (pe_i64 _) rfl) ?_
  rintro pw1 w1 ew1
  change pw1 = w1.toInt at ew1; subst ew1
  refine r_bind (A := qJ) (rf_J7_max_2 (pe_i64 _) rfl) ?_
  rintro pw2 w2 ew2
  change pw2 = w2.toInt at ew2; subst ew2
  refine r_p32 (px_j (pj_v _)) ?_
  exact r_some (qI_i rfl)
def p_X0_whoAt (S : zP) (ca1 na1 : Nat) (a2 : Int) : Option Int :=
(p_X0_many S).bind fun v1 =>
(pmod a2 v1).bind fun v2 =>
p32 (2 + v2) fun x1 =>
(pald S ca1 na1 x1).bind fun v3 =>
some (v3)
set_option maxHeartbeats 4000000 in
theorem rf_X0_whoAt {g : zGd} {M : Nat} {m0 : zMm} (hL : pLC g (zR m0) M) {m : zMm} (hm : pOk (bC M) m0 m) {ca1 na1 : Nat} (ka1 : zK g ((bC M).1 + ca1) = (101, na1)) (za1 : ∀ i, (bC M).2.2 ca1 i) {pa2 : Int} {a2 : Int32} (ea2 : pa2 = a2.toInt) : pRf qI (p_X0_whoAt (pI (bC M) m) ca1 na1 pa2) (f_X0_whoAt g m (some ((bC M).1 + 0)) (some ((bC M).1 + ca1)) a2) := by
  subst ea2
  unfold p_X0_whoAt f_X0_whoAt
  refine r_bind (A := qI) (r_rc (B := (bC M)) (c := 0) (lc_o hL) (rf_X0_many hL hm)) ?_
  rintro pv1 v1 ev1
  change pv1 = v1.toInt at ev1; subst ev1
  refine r_mod rfl rfl (fun v2 => ?_)
  refine r_p32 (px_add (px_n (2 : Int32) (by decide)) (px_v _)) ?_
  refine r_ald ka1 rfl (fun _ => rfl) (fun v3 => ?_)
  exact r_some (qI_i rfl)
def p_X0_acrossOf (S : zP) (ca1 na1 : Nat) (a2 : Int) : Option Int :=
(p_X0_seatOf S ca1 na1 a2).bind fun v1 =>
(p_X0_many S).bind fun v2 =>
p32 (v1 + (pdv v2 2)) fun x1 =>
(p_X0_whoAt S ca1 na1 x1).bind fun v3 =>
some (v3)
set_option maxHeartbeats 4000000 in
theorem rf_X0_acrossOf {g : zGd} {M : Nat} {m0 : zMm} (hL : pLC g (zR m0) M) {m : zMm} (hm : pOk (bC M) m0 m) {ca1 na1 : Nat} (ka1 : zK g ((bC M).1 + ca1) = (101, na1)) (za1 : ∀ i, (bC M).2.2 ca1 i) {pa2 : Int} {a2 : Int32} (ea2 : pa2 = a2.toInt) : pRf qI (p_X0_acrossOf (pI (bC M) m) ca1 na1 pa2) (f_X0_acrossOf g m (some ((bC M).1 + 0)) (some ((bC M).1 + ca1)) a2) := by
  subst ea2
  unfold p_X0_acrossOf f_X0_acrossOf
  refine r_bind (A := qI) (r_rc (B := (bC M)) (c := 0) (lc_o hL) (rf_X0_seatOf hL hm ka1 za1 rfl)) ?_
  rintro pv1 v1 ev1
  change pv1 = v1.toInt at ev1; subst ev1
  refine r_bind (A := qI) (r_rc (B := (bC M)) (c := 0) (lc_o hL) (rf_X0_many hL hm)) ?_
  rintro pv2 v2 ev2
  change pv2 = v2.toInt at ev2; subst ev2
  refine r_p32 (px_add (px_v _) (px_e (pe_dv (by decide) rfl (eI (2 : Int32) (by decide))))) ?_
  refine r_bind (A := qI) (r_rc (B := (bC M)) (c := 0) (lc_o hL) (rf_X0_whoAt hL hm ka1 za1 rfl)) ?_
  rintro pv3 v3 ev3
  change pv3 = v3.toInt at ev3; subst ev3
  exact r_some (qI_i rfl)
def pb_X0_namesOf_57 (ca1 na1 : Nat) : (Int × zP) → Option (zP ⊕ (Int × zP)) := fun (v20, S21) =>
if 6 ≤ v20 then (some (.inl S21))
else ((p_X0_many S21).bind fun v23 =>
((if v23 ≤ v20 then (some (0))
else ((p_X0_acrossOf S21 ca1 na1 v20).bind fun v26 =>
some (v26)) : Option Int)).bind fun v25 =>
p32 (7 + v20) fun x1 =>
(past S21 144 19 x1 v25).bind fun S27 =>
(p_X0_many S27).bind fun v29 =>
if v29 ≤ v20 then (p32 (13 + v20) fun x2 =>
(past S27 144 19 x2 0).bind fun S30 =>
p32 (v20 + 1) fun v31 =>
some (.inr (v31, S30)))
else (p32 (8 + v20) fun x3 =>
(pald S27 ca1 na1 x3).bind fun v32 =>
p32 (13 + v20) fun x4 =>
(past S27 144 19 x4 v32).bind fun S33 =>
p32 (v20 + 1) fun v34 =>
some (.inr (v34, S33))))
set_option maxHeartbeats 4000000 in
theorem rb_X0_namesOf_57 {g : zGd} {M : Nat} {m0 : zMm} (hL : pLC g (zR m0) M) {ca1 na1 : Nat} (ka1 : zK g ((bC M).1 + ca1) = (101, na1)) (za1 : ∀ i, (bC M).2.2 ca1 i) : ∀ s t, (qP qI (qM (bC M) m0)) s t → pRf (qS (qM (bC M) m0) (qP qI (qM (bC M) m0))) (pb_X0_namesOf_57 ca1 na1 s) (b_X0_namesOf_57 g (some ((bC M).1 + 0)) (some ((bC M).1 + ca1)) t) := by
  rintro ⟨pv20, S21⟩ ⟨v20, m21⟩ ⟨ev20, ⟨em21, hm21⟩⟩
  change pv20 = v20.toInt at ev20; subst ev20
  change S21 = pI (bC M) m21 at em21; subst em21
  unfold pb_X0_namesOf_57 b_X0_namesOf_57
  try dsimp only
  refine r_ite (pc_le (eI (6 : Int32) (by decide)) rfl) ?_ ?_
  · exact r_some (qS_l (qM_i hm21))
  · refine r_gr (d := 144) hm21 (lc_o hL) (lc_f6 hL) ?_
    refine r_bind (A := qI) (r_rc (B := (bC M)) (c := 0) (lc_o hL) (rf_X0_many hL hm21)) ?_
    rintro pv23 v23 ev23
    change pv23 = v23.toInt at ev23; subst ev23
    refine r_bind (A := qI) ?_ ?_
    · refine r_ite (pc_le rfl rfl) ?_ ?_
      · exact r_some (qI_i (eI (0 : Int32) (by decide)))
      · refine r_bind (A := qI) (r_rc (B := (bC M)) (c := 0) (lc_o hL) (rf_X0_acrossOf hL hm21 ka1 za1 rfl)) ?_
        rintro pv26 v26 ev26
        change pv26 = v26.toInt at ev26; subst ev26
        exact r_some (qI_i rfl)
    rintro pv25 v25 ev25
    change pv25 = v25.toInt at ev25; subst ev25
    refine r_p32 (px_add (px_n (7 : Int32) (by decide)) (px_v _)) ?_
    refine r_ast hm21 (lc_k144 hL) hL.1 (wC (by omega)) rfl rfl (fun _ => rfl) (fun m27 hm27 => ?_)
    refine r_gr (d := 144) hm27 (lc_o hL) (lc_f6 hL) ?_
    refine r_bind (A := qI) (r_rc (B := (bC M)) (c := 0) (lc_o hL) (rf_X0_many hL hm27)) ?_
    rintro pv29 v29 ev29
    change pv29 = v29.toInt at ev29; subst ev29
    refine r_ite (pc_le rfl rfl) ?_ ?_
    · refine r_p32 (px_add (px_n (13 : Int32) (by decide)) (px_v _)) ?_
      refine r_ast hm27 (lc_k144 hL) hL.1 (wC (by omega)) rfl (eI (0 : Int32) (by decide)) (fun _ => rfl) (fun m30 hm30 => ?_)
      refine r_lt32 (px_add (px_v _) (px_n (1 : Int32) (by decide))) (fun v31 => ?_)
      exact r_some (qS_r (qP_i (qI_i rfl) (qM_i hm30)))
    · refine r_p32 (px_add (px_n (8 : Int32) (by decide)) (px_v _)) ?_
      refine r_ald ka1 rfl (fun _ => rfl) (fun v32 => ?_)
      refine r_p32 (px_add (px_n (13 : Int32) (by decide)) (px_v _)) ?_
      refine r_ast hm27 (lc_k144 hL) hL.1 (wC (by omega)) rfl rfl (fun _ => rfl) (fun m33 hm33 => ?_)
      refine r_lt32 (px_add (px_v _) (px_n (1 : Int32) (by decide))) (fun v34 => ?_)
      exact r_some (qS_r (qP_i (qI_i rfl) (qM_i hm33)))
def p_X0_namesOf (S : zP) (ca1 na1 : Nat) (a2 : Int) : Option zP :=
(pald S ca1 na1 0).bind fun v2 =>
(past S 144 19 0 v2).bind fun S3 =>
(past S3 144 19 1 a2).bind fun S5 =>
(pald S5 4 6 a2).bind fun v9 =>
(past S5 144 19 2 v9).bind fun S10 =>
p32 (8 + a2) fun x1 =>
(pald S10 ca1 na1 x1).bind fun v12 =>
(past S10 144 19 3 v12).bind fun S13 =>
(p_X0_seatOf S13 ca1 na1 a2).bind fun v15 =>
(past S13 144 19 4 v15).bind fun S16 =>
(zLoop (pb_X0_namesOf_57 ca1 na1) zFuel (0, S16)).bind fun S18 =>
some (S18)
set_option maxHeartbeats 4000000 in
theorem rf_X0_namesOf {g : zGd} {M : Nat} {m0 : zMm} (hL : pLC g (zR m0) M) {m : zMm} (hm : pOk (bC M) m0 m) {ca1 na1 : Nat} (ka1 : zK g ((bC M).1 + ca1) = (101, na1)) (za1 : ∀ i, (bC M).2.2 ca1 i) {pa2 : Int} {a2 : Int32} (ea2 : pa2 = a2.toInt) : pRf (qM (bC M) m0) (p_X0_namesOf (pI (bC M) m) ca1 na1 pa2) (f_X0_namesOf g m (some ((bC M).1 + 0)) (some ((bC M).1 + ca1)) a2) := by
  subst ea2
  unfold p_X0_namesOf f_X0_namesOf
  refine r_gr (d := 144) hm (lc_o hL) (lc_f6 hL) ?_
  refine r_ald ka1 (eI (0 : Int32) (by decide)) (fun _ => rfl) (fun v2 => ?_)
  refine r_ast hm (lc_k144 hL) hL.1 (wC (by omega)) (eI (0 : Int32) (by decide)) rfl (fun _ => rfl) (fun m3 hm3 => ?_)
  refine r_gr (d := 144) hm3 (lc_o hL) (lc_f6 hL) ?_
  refine r_ast hm3 (lc_k144 hL) hL.1 (wC (by omega)) (eI (1 : Int32) (by decide)) rfl (fun _ => rfl) (fun m5 hm5 => ?_)
  refine r_gr (d := 144) hm5 (lc_o hL) (lc_f6 hL) ?_
  refine r_gr (d := 1) hm5 (lc_o hL) (lc_f0 hL) ?_
  refine r_gr (d := 4) hm5 (ls_o (lc_s1 hL)) (ls_f2 (lc_s1 hL)) ?_
  refine r_ald (ls_k3 (lc_s1 hL)) rfl (fun _ => rfl) (fun v9 => ?_)
  refine r_ast hm5 (lc_k144 hL) hL.1 (wC (by omega)) (eI (2 : Int32) (by decide)) rfl (fun _ => rfl) (fun m10 hm10 => ?_)
  refine r_gr (d := 144) hm10 (lc_o hL) (lc_f6 hL) ?_
  refine r_p32 (px_add (px_n (8 : Int32) (by decide)) (px_v _)) ?_
  refine r_ald ka1 rfl (fun _ => rfl) (fun v12 => ?_)
  refine r_ast hm10 (lc_k144 hL) hL.1 (wC (by omega)) (eI (3 : Int32) (by decide)) rfl (fun _ => rfl) (fun m13 hm13 => ?_)
  refine r_gr (d := 144) hm13 (lc_o hL) (lc_f6 hL) ?_
  refine r_bind (A := qI) (r_rc (B := (bC M)) (c := 0) (lc_o hL) (rf_X0_seatOf hL hm13 ka1 za1 rfl)) ?_
  rintro pv15 v15 ev15
  change pv15 = v15.toInt at ev15; subst ev15
  refine r_ast hm13 (lc_k144 hL) hL.1 (wC (by omega)) (eI (4 : Int32) (by decide)) rfl (fun _ => rfl) (fun m16 hm16 => ?_)
  refine r_bind (A := (qM (bC M) m0)) (r_loop (rb_X0_namesOf_57 hL ka1 za1) zFuel _ _ (qP_i (qI_i (eI (0 : Int32) (by decide))) (qM_i hm16))) ?_
  rintro S18 m18 ⟨em18, hm18⟩
  change S18 = pI (bC M) m18 at em18; subst em18
  exact r_some (qM_i hm18)
def p_X0_rules (W : pW) (S : zP) : Option (Option Nat) :=
(pald S 2 7 2).bind fun v3 =>
if v3 = (-1) then (some W.2.1)
else ((pald S 2 7 2).bind fun v8 =>
(ptx W v8).bind fun r9 =>
some r9)
set_option maxHeartbeats 4000000 in
theorem rf_X0_rules {g : zGd} {M : Nat} {m0 : zMm} (hL : pLC g (zR m0) M) {W : pW} (hW : pWok g (bC M) m0 W) {m : zMm} (hm : pOk (bC M) m0 m) : pRf qT (p_X0_rules W (pI (bC M) m)) (f_X0_rules g m (some ((bC M).1 + 0))) := by
  unfold p_X0_rules f_X0_rules
  refine r_gr (d := 1) hm (lc_o hL) (lc_f0 hL) ?_
  refine r_gr (d := 2) hm (ls_o (lc_s1 hL)) (ls_f0 (lc_s1 hL)) ?_
  refine r_ald (ls_k1 (lc_s1 hL)) (by decide) (fun _ => rfl) (fun v3 => ?_)
  refine r_ite (pc_eq rfl (by decide)) ?_ ?_
  · exact r_some hW.2.1
  · refine r_gr (d := 1) hm (lc_o hL) (lc_f0 hL) ?_
    refine r_gr (d := 71) hm (ls_o (lc_s1 hL)) (ls_f11 (lc_s1 hL)) ?_
    refine r_gr (d := 1) hm (lc_o hL) (lc_f0 hL) ?_
    refine r_gr (d := 2) hm (ls_o (lc_s1 hL)) (ls_f0 (lc_s1 hL)) ?_
    refine r_ald (ls_k1 (lc_s1 hL)) (by decide) (fun _ => rfl) (fun v8 => ?_)
    refine r_aldt hm (ls_k70 (lc_s1 hL)) rfl hW.1 (fun r9 => ?_)
    exact r_some rfl
/-- what a law of a text gives, over the machine: if it isn't told, the one, else the other -/
theorem r_law {α β : Type} {Q : α → β → Prop} {K : Option Int → Option α} {K' : Option Nat → Option β} {g : zGd} {M : Nat} {m0 m : zMm} {W : pW} (hW : pWok g (bC M) m0 W) (hm : pOk (bC M) m0 m) {t : Option Nat} {x : Int} {w : Int32} (hx : x = w.toInt) (kk : ∀ (o : Option Int) (la p : Option Nat), zgr g m 4 0 t = some la → zaldr 107 g m la w = some p → (match o with | none => p = none | some v => p ≠ none ∧ ∃ z : Int64, (r_E 70 g m).1 p (some ((bC M).1 + 144)) = some z ∧ v = z.toInt) → pRf Q (K o) (K' p)) : pRf Q ((W.2.2 t x (pI (bC M) m 144)).bind K) ((zgr g m 4 0 t).bind fun la => (zaldr 107 g m la w).bind K') := by
  intro r hr
  cases hq : W.2.2 t x (pI (bC M) m 144) with
  | none => rw [hq] at hr; cases hr
  | some o =>
    rw [hq] at hr
    have hr : K o = some r := hr
    rw [hx] at hq
    obtain ⟨la, p, h1, h2, h3⟩ := hW.2.2 m hm t w o hq
    rw [h1]
    show ∃ s, ((zaldr 107 g m la w).bind K') = some s ∧ Q r s
    rw [h2]
    exact kk o la p h1 h2 h3 r hr
def p_X0_bearsOf (W : pW) (S : zP) (ca1 na1 : Nat) (a2 : Int) : Option (Int × zP) :=
(p_X0_namesOf S ca1 na1 a2).bind fun S1 =>
(pald S1 ca1 na1 15).bind fun v3 =>
(past S1 144 19 6 v3).bind fun S4 =>
(p_X0_rules W S4).bind fun r5 =>
(W.2.2 r5 1 (S4 144)).bind fun o =>
((match o with
  | none => some 5
  | some v => some v) : Option Int).bind fun w9 =>
(p_X0_held w9 0 99).bind fun v15 =>
some (v15, S4)
set_option maxHeartbeats 4000000 in
theorem rf_X0_bearsOf {g : zGd} {M : Nat} {m0 : zMm} (hL : pLC g (zR m0) M) {W : pW} (hW : pWok g (bC M) m0 W) {m : zMm} (hm : pOk (bC M) m0 m) {ca1 na1 : Nat} (ka1 : zK g ((bC M).1 + ca1) = (101, na1)) (za1 : ∀ i, (bC M).2.2 ca1 i) {pa2 : Int} {a2 : Int32} (ea2 : pa2 = a2.toInt) : pRf (qP qI (qM (bC M) m0)) (p_X0_bearsOf W (pI (bC M) m) ca1 na1 pa2) (f_X0_bearsOf g m (some ((bC M).1 + 0)) (some ((bC M).1 + ca1)) a2) := by
  subst ea2
  unfold p_X0_bearsOf f_X0_bearsOf
  refine r_bind (A := (qM (bC M) m0)) (r_rc (c := 0) (lc_o hL) (rf_X0_namesOf hL hm ka1 za1 rfl)) ?_
  rintro S1 m1 ⟨em1, hm1⟩
  change S1 = pI (bC M) m1 at em1; subst em1
  refine r_gr (d := 144) hm1 (lc_o hL) (lc_f6 hL) ?_
  refine r_ald ka1 (by decide) (fun _ => rfl) (fun v3 => ?_)
  refine r_ast hm1 (lc_k144 hL) hL.1 (wC (by omega)) (eI (6 : Int32) (by decide)) rfl (fun _ => rfl) (fun m4 hm4 => ?_)
  intro r hr
  cases hru : p_X0_rules W (pI (bC M) m4) with
  | none => rw [hru] at hr; cases hr
  | some r5 =>
    rw [hru] at hr
    obtain ⟨r5', hf, e5⟩ := rf_X0_rules hL hW hm4 r5 hru
    change r5 = r5' at e5; subst e5
    have hz : zrc g 0 (some ((bC M).1 + 0)) (f_X0_rules g m4 (some ((bC M).1 + 0))) = some r5 := (if_pos (lc_o hL)).trans hf
    rw [hz]
    revert r
    show pRf (qP qI (qM (bC M) m0)) ((W.2.2 r5 1 (pI (bC M) m4 144)).bind _) ((zgr g m4 4 0 r5).bind fun la => (zaldr 107 g m4 la (1 : Int32)).bind _)
    refine r_law hW hm4 (eI (1 : Int32) (by decide)) (fun o la p h1 h2 h3 => ?_)
    have h7 : zgr g m4 0 6 (some ((bC M).1 + 0)) = some (some ((bC M).1 + 144)) := by
      refine (if_pos (lc_o hL)).trans ?_
      rw [hm4.2, lc_f6 hL]
    refine r_bind (A := qJ) ?_ ?_
    · cases o with
      | none =>
        have h3 : p = none := h3
        rw [if_pos h3]
        exact r_some (qJ_i (eJ (5 : Int64) (by decide)))
      | some v =>
        obtain ⟨h4, z, h5, h6⟩ := h3
        rw [if_neg h4]
        have h8 : ((some r5).bind fun r10 => (zgr g m4 4 0 r10).bind fun r11 => (zaldr 107 g m4 r11 (1 : Int32)).bind fun r12 => (zgr g m4 0 6 (some ((bC M).1 + 0))).bind fun r13 => ((r_E 70 g m4).1 r12 r13).bind fun w14 => some w14) = some z := by
          show ((zgr g m4 4 0 r5).bind fun r11 => (zaldr 107 g m4 r11 (1 : Int32)).bind fun r12 => (zgr g m4 0 6 (some ((bC M).1 + 0))).bind fun r13 => ((r_E 70 g m4).1 r12 r13).bind fun w14 => some w14) = some z
          rw [h1]
          show ((zaldr 107 g m4 la (1 : Int32)).bind fun r12 => (zgr g m4 0 6 (some ((bC M).1 + 0))).bind fun r13 => ((r_E 70 g m4).1 r12 r13).bind fun w14 => some w14) = some z
          rw [h2]
          show ((zgr g m4 0 6 (some ((bC M).1 + 0))).bind fun r13 => ((r_E 70 g m4).1 p r13).bind fun w14 => some w14) = some z
          rw [h7]
          show (((r_E 70 g m4).1 p (some ((bC M).1 + 144))).bind fun w14 => some w14) = some z
          rw [h5]; rfl
        rw [h8]
        exact r_some (qJ_i h6)
    · rintro pw9 w9 ew9
      change pw9 = w9.toInt at ew9; subst ew9
      refine r_bind (A := qI) (rf_X0_held rfl (eI (0 : Int32) (by decide)) (eI (99 : Int32) (by decide))) ?_
      rintro pv15 v15 ev15
      change pv15 = v15.toInt at ev15; subst ev15
      exact r_some (qP_i (qI_i rfl) (qM_i hm4))
def p_X0_drawn (S : zP) (ca0 na0 : Nat) (a1 : Int) : Option (Int × zP) :=
(pald S ca0 na0 1).bind fun v1 =>
(pmod v1 a1).bind fun v2 =>
(pald S ca0 na0 1).bind fun v3 =>
p32 ((v3 * 673) + 547) fun x1 =>
zlt (prm x1 30971) fun x2 =>
(past S ca0 na0 1 x2).bind fun S4 =>
some ((v2, S4))
set_option maxHeartbeats 4000000 in
theorem rf_X0_drawn {g : zGd} {M : Nat} {m0 : zMm} (hL : pLC g (zR m0) M) {m : zMm} (hm : pOk (bC M) m0 m) {ca0 na0 : Nat} (ka0 : zK g ((bC M).1 + ca0) = (101, na0)) (za0 : ∀ i, (bC M).2.2 ca0 i) {pa1 : Int} {a1 : Int32} (ea1 : pa1 = a1.toInt) : pRf (qP qI (qM (bC M) m0)) (p_X0_drawn (pI (bC M) m) ca0 na0 pa1) (f_X0_drawn g m (some ((bC M).1 + ca0)) a1) := by
  subst ea1
  unfold p_X0_drawn f_X0_drawn
  refine r_ald ka0 (eI (1 : Int32) (by decide)) (fun _ => rfl) (fun v1 => ?_)
  refine r_mod rfl rfl (fun v2 => ?_)
  refine r_ald ka0 (eI (1 : Int32) (by decide)) (fun _ => rfl) (fun v3 => ?_)
  refine r_p32 (px_add (px_mul (px_v _) (px_n (673 : Int32) (by decide))) (px_n (547 : Int32) (by decide))) ?_
  refine r_x32 (pe_rm (by decide) rfl (eI (30971 : Int32) (by decide))) ?_
  refine r_ast hm ka0 hL.1 (za0 _) (eI (1 : Int32) (by decide)) rfl (fun _ => rfl) (fun m4 hm4 => ?_)
  exact r_some (qP_i (qI_i rfl) (qM_i hm4))
def p_X0_writes (S : zP) (ca0 na0 : Nat) (a1 : Int) (a2 : Int) (a3 : Int) : Option zP :=
(pald S ca0 na0 15).bind fun v1 =>
((if v1 = 25 then ((pcp S ca0 na0 20 ca0 na0 16 96).bind fun S4 =>
(pald S4 ca0 na0 15).bind fun v5 =>
p32 (v5 - 1) fun x1 =>
(past S4 ca0 na0 15 x1).bind fun S6 =>
some (S6))
else (some (S)) : Option zP)).bind fun S3 =>
(pald S3 ca0 na0 15).bind fun v7 =>
p32 (16 + (4 * v7)) fun v8 =>
(pald S3 ca0 na0 0).bind fun v9 =>
(past S3 ca0 na0 v8 v9).bind fun S10 =>
p32 (v8 + 1) fun x2 =>
(past S10 ca0 na0 x2 a1).bind fun S11 =>
p32 (v8 + 2) fun x3 =>
(past S11 ca0 na0 x3 a2).bind fun S12 =>
p32 (v8 + 3) fun x4 =>
(past S12 ca0 na0 x4 a3).bind fun S13 =>
(pald S13 ca0 na0 15).bind fun v14 =>
p32 (v14 + 1) fun x5 =>
(past S13 ca0 na0 15 x5).bind fun S15 =>
some (S15)
set_option maxHeartbeats 4000000 in
theorem rf_X0_writes {g : zGd} {M : Nat} {m0 : zMm} (hL : pLC g (zR m0) M) {m : zMm} (hm : pOk (bC M) m0 m) {ca0 na0 : Nat} (ka0 : zK g ((bC M).1 + ca0) = (101, na0)) (za0 : ∀ i, (bC M).2.2 ca0 i) {pa1 : Int} {a1 : Int32} (ea1 : pa1 = a1.toInt) {pa2 : Int} {a2 : Int32} (ea2 : pa2 = a2.toInt) {pa3 : Int} {a3 : Int32} (ea3 : pa3 = a3.toInt) : pRf (qM (bC M) m0) (p_X0_writes (pI (bC M) m) ca0 na0 pa1 pa2 pa3) (f_X0_writes g m (some ((bC M).1 + ca0)) a1 a2 a3) := by
  subst ea1
  subst ea2
  subst ea3
  unfold p_X0_writes f_X0_writes
  refine r_ald ka0 (eI (15 : Int32) (by decide)) (fun _ => rfl) (fun v1 => ?_)
  refine r_bind (A := (qM (bC M) m0)) ?_ ?_
  · refine r_ite (pc_eq rfl (eI (25 : Int32) (by decide))) ?_ ?_
    · refine r_cpi hm ka0 ka0 hL.1 za0 (eI (20 : Int32) (by decide)) (eI (16 : Int32) (by decide)) (eI (96 : Int32) (by decide)) (fun _ => rfl) (fun _ => rfl) (fun m4 hm4 => ?_)
      refine r_ald ka0 (eI (15 : Int32) (by decide)) (fun _ => rfl) (fun v5 => ?_)
      refine r_p32 (px_sub (px_v _) (px_n (1 : Int32) (by decide))) ?_
      refine r_ast hm4 ka0 hL.1 (za0 _) (eI (15 : Int32) (by decide)) rfl (fun _ => rfl) (fun m6 hm6 => ?_)
      exact r_some (qM_i hm6)
    · exact r_some (qM_i hm)
  rintro S3 m3 ⟨em3, hm3⟩
  change S3 = pI (bC M) m3 at em3; subst em3
  refine r_ald ka0 (eI (15 : Int32) (by decide)) (fun _ => rfl) (fun v7 => ?_)
  refine r_lt32 (px_add (px_n (16 : Int32) (by decide)) (px_mul (px_n (4 : Int32) (by decide)) (px_v _))) (fun v8 => ?_)
  refine r_ald ka0 (eI (0 : Int32) (by decide)) (fun _ => rfl) (fun v9 => ?_)
  refine r_ast hm3 ka0 hL.1 (za0 _) rfl rfl (fun _ => rfl) (fun m10 hm10 => ?_)
  refine r_p32 (px_add (px_v _) (px_n (1 : Int32) (by decide))) ?_
  refine r_ast hm10 ka0 hL.1 (za0 _) rfl rfl (fun _ => rfl) (fun m11 hm11 => ?_)
  refine r_p32 (px_add (px_v _) (px_n (2 : Int32) (by decide))) ?_
  refine r_ast hm11 ka0 hL.1 (za0 _) rfl rfl (fun _ => rfl) (fun m12 hm12 => ?_)
  refine r_p32 (px_add (px_v _) (px_n (3 : Int32) (by decide))) ?_
  refine r_ast hm12 ka0 hL.1 (za0 _) rfl rfl (fun _ => rfl) (fun m13 hm13 => ?_)
  refine r_ald ka0 (eI (15 : Int32) (by decide)) (fun _ => rfl) (fun v14 => ?_)
  refine r_p32 (px_add (px_v _) (px_n (1 : Int32) (by decide))) ?_
  refine r_ast hm13 ka0 hL.1 (za0 _) (eI (15 : Int32) (by decide)) rfl (fun _ => rfl) (fun m15 hm15 => ?_)
  exact r_some (qM_i hm15)
def pb_X0_looses_27 (ca1 na1 : Nat) (a2 : Int) (S3 : zP) : (Int × Int) → Option ((Int × Int) ⊕ (Int × Int)) := fun (v11, v12) =>
(p_X0_whoAt S3 ca1 na1 v11).bind fun v13 =>
if v13 = a2 then (some (.inl (v11, v12)))
else ((p_X0_whoAt S3 ca1 na1 v11).bind fun v14 =>
p32 (8 + v14) fun x1 =>
(pald S3 ca1 na1 x1).bind fun v15 =>
if v15 = 0 then ((p_X0_whoAt S3 ca1 na1 v11).bind fun v16 =>
zlt (pshl 1 v16) fun x2 =>
zlt (por v12 x2) fun v17 =>
p32 (v11 + 1) fun v18 =>
some (.inr (v18, v17)))
else (some (.inl (v11, v12))))
set_option maxHeartbeats 4000000 in
theorem rb_X0_looses_27 {g : zGd} {M : Nat} {m0 : zMm} (hL : pLC g (zR m0) M) {ca1 na1 : Nat} (ka1 : zK g ((bC M).1 + ca1) = (101, na1)) (za1 : ∀ i, (bC M).2.2 ca1 i) {pa2 : Int} {a2 : Int32} (ea2 : pa2 = a2.toInt) {m3 : zMm} (hm3 : pOk (bC M) m0 m3) : ∀ s t, (qP qI qI) s t → pRf (qS (qP qI qI) (qP qI qI)) (pb_X0_looses_27 ca1 na1 pa2 (pI (bC M) m3) s) (b_X0_looses_27 g (some ((bC M).1 + 0)) (some ((bC M).1 + ca1)) a2 m3 t) := by
  subst ea2
  rintro ⟨pv11, pv12⟩ ⟨v11, v12⟩ ⟨ev11, ev12⟩
  change pv11 = v11.toInt at ev11; subst ev11
  change pv12 = v12.toInt at ev12; subst ev12
  unfold pb_X0_looses_27 b_X0_looses_27
  try dsimp only
  refine r_bind (A := qI) (r_rc (B := (bC M)) (c := 0) (lc_o hL) (rf_X0_whoAt hL hm3 ka1 za1 rfl)) ?_
  rintro pv13 v13 ev13
  change pv13 = v13.toInt at ev13; subst ev13
  refine r_ite (pc_eq rfl rfl) ?_ ?_
  · exact r_some (qS_l (qP_i (qI_i rfl) (qI_i rfl)))
  · refine r_bind (A := qI) (r_rc (B := (bC M)) (c := 0) (lc_o hL) (rf_X0_whoAt hL hm3 ka1 za1 rfl)) ?_
    rintro pv14 v14 ev14
    change pv14 = v14.toInt at ev14; subst ev14
    refine r_p32 (px_add (px_n (8 : Int32) (by decide)) (px_v _)) ?_
    refine r_ald ka1 rfl (fun _ => rfl) (fun v15 => ?_)
    refine r_ite (pc_eq rfl (eI (0 : Int32) (by decide))) ?_ ?_
    · refine r_bind (A := qI) (r_rc (B := (bC M)) (c := 0) (lc_o hL) (rf_X0_whoAt hL hm3 ka1 za1 rfl)) ?_
      rintro pv16 v16 ev16
      change pv16 = v16.toInt at ev16; subst ev16
      refine r_x32 (pe_shl (eI (1 : Int32) (by decide)) rfl) ?_
      refine r_ltx (pe_or rfl rfl) (fun v17 => ?_)
      refine r_lt32 (px_add (px_v _) (px_n (1 : Int32) (by decide))) (fun v18 => ?_)
      exact r_some (qS_r (qP_i (qI_i rfl) (qI_i rfl)))
    · exact r_some (qS_l (qP_i (qI_i rfl) (qI_i rfl)))
def p_X0_looses (S : zP) (ca1 na1 : Nat) (a2 : Int) : Option zP :=
p32 (8 + a2) fun v1 =>
(pald S ca1 na1 v1).bind fun v2 =>
zlt (pdv v2 2) fun x1 =>
(past S ca1 na1 v1 x1).bind fun S3 =>
(p_X0_seatOf S3 ca1 na1 a2).bind fun v4 =>
(p_X0_many S3).bind fun v5 =>
p32 (v4 + (pdv v5 2)) fun v6 =>
(zLoop (pb_X0_looses_27 ca1 na1 a2 S3) zFuel (v6, 0)).bind fun (v8, v9) =>
(p_X0_whoAt S3 ca1 na1 v8).bind fun v19 =>
((if v19 = a2 then (some ((-1)))
else ((p_X0_whoAt S3 ca1 na1 v8).bind fun v22 =>
some (v22)) : Option Int)).bind fun v21 =>
((if v21 = (-1) then (some (S3))
else ((p_X0_reaches S3 ca1 na1 v21).bind fun S25 =>
some (S25)) : Option zP)).bind fun S24 =>
(p_X0_writes S24 ca1 na1 a2 v9 v21).bind fun S26 =>
some (S26)
set_option maxHeartbeats 4000000 in
theorem rf_X0_looses {g : zGd} {M : Nat} {m0 : zMm} (hL : pLC g (zR m0) M) {m : zMm} (hm : pOk (bC M) m0 m) {ca1 na1 : Nat} (ka1 : zK g ((bC M).1 + ca1) = (101, na1)) (za1 : ∀ i, (bC M).2.2 ca1 i) {pa2 : Int} {a2 : Int32} (ea2 : pa2 = a2.toInt) : pRf (qM (bC M) m0) (p_X0_looses (pI (bC M) m) ca1 na1 pa2) (f_X0_looses g m (some ((bC M).1 + 0)) (some ((bC M).1 + ca1)) a2) := by
  subst ea2
  unfold p_X0_looses f_X0_looses
  refine r_lt32 (px_add (px_n (8 : Int32) (by decide)) (px_v _)) (fun v1 => ?_)
  refine r_ald ka1 rfl (fun _ => rfl) (fun v2 => ?_)
  refine r_x32 (pe_dv (by decide) rfl (eI (2 : Int32) (by decide))) ?_
  refine r_ast hm ka1 hL.1 (za1 _) rfl rfl (fun _ => rfl) (fun m3 hm3 => ?_)
  refine r_bind (A := qI) (r_rc (B := (bC M)) (c := 0) (lc_o hL) (rf_X0_seatOf hL hm3 ka1 za1 rfl)) ?_
  rintro pv4 v4 ev4
  change pv4 = v4.toInt at ev4; subst ev4
  refine r_bind (A := qI) (r_rc (B := (bC M)) (c := 0) (lc_o hL) (rf_X0_many hL hm3)) ?_
  rintro pv5 v5 ev5
  change pv5 = v5.toInt at ev5; subst ev5
  refine r_lt32 (px_add (px_v _) (px_e (pe_dv (by decide) rfl (eI (2 : Int32) (by decide))))) (fun v6 => ?_)
  refine r_bind (A := (qP qI qI)) (r_loop (rb_X0_looses_27 hL ka1 za1 rfl hm3) zFuel _ _ (qP_i (qI_i rfl) (qI_i (eI (0 : Int32) (by decide))))) ?_
  rintro ⟨pv8, pv9⟩ ⟨v8, v9⟩ ⟨ev8, ev9⟩
  change pv8 = v8.toInt at ev8; subst ev8
  change pv9 = v9.toInt at ev9; subst ev9
  refine r_bind (A := qI) (r_rc (B := (bC M)) (c := 0) (lc_o hL) (rf_X0_whoAt hL hm3 ka1 za1 rfl)) ?_
  rintro pv19 v19 ev19
  change pv19 = v19.toInt at ev19; subst ev19
  refine r_bind (A := qI) ?_ ?_
  · refine r_ite (pc_eq rfl rfl) ?_ ?_
    · exact r_some (qI_i (eI (-1 : Int32) (by decide)))
    · refine r_bind (A := qI) (r_rc (B := (bC M)) (c := 0) (lc_o hL) (rf_X0_whoAt hL hm3 ka1 za1 rfl)) ?_
      rintro pv22 v22 ev22
      change pv22 = v22.toInt at ev22; subst ev22
      exact r_some (qI_i rfl)
  rintro pv21 v21 ev21
  change pv21 = v21.toInt at ev21; subst ev21
  refine r_bind (A := (qM (bC M) m0)) ?_ ?_
  · refine r_ite (pc_eq rfl (eI (-1 : Int32) (by decide))) ?_ ?_
    · exact r_some (qM_i hm3)
    · refine r_bind (A := (qM (bC M) m0)) (rf_X0_reaches hL hm3 ka1 za1 rfl) ?_
      rintro S25 m25 ⟨em25, hm25⟩
      change S25 = pI (bC M) m25 at em25; subst em25
      exact r_some (qM_i hm25)
  rintro S24 m24 ⟨em24, hm24⟩
  change S24 = pI (bC M) m24 at em24; subst em24
  refine r_bind (A := (qM (bC M) m0)) (rf_X0_writes hL hm24 ka1 za1 rfl rfl rfl) ?_
  rintro S26 m26 ⟨em26, hm26⟩
  change S26 = pI (bC M) m26 at em26; subst em26
  exact r_some (qM_i hm26)
def p_X0_reachesBy (W : pW) (S : zP) (a1 : Option Nat) (ca2 na2 : Nat) (a3 : Int) : Option (Int × zP) :=
(p_X0_namesOf S ca2 na2 a3).bind fun S1 =>
(pald S1 144 19 4).bind fun v4 =>
p32 (v4 + 1) fun x1 =>
(p_X0_whoAt S1 ca2 na2 x1).bind fun v5 =>
p32 (8 + v5) fun x2 =>
(pald S1 ca2 na2 x2).bind fun v6 =>
(pald S1 144 19 4).bind fun v8 =>
(p_X0_many S1).bind fun v9 =>
p32 ((v8 + v9) - 1) fun x3 =>
(p_X0_whoAt S1 ca2 na2 x3).bind fun v10 =>
p32 (8 + v10) fun x4 =>
(pald S1 ca2 na2 x4).bind fun v11 =>
p32 (v6 + v11) fun x5 =>
(past S1 144 19 5 x5).bind fun S12 =>
(W.2.2 a1 0 (S12 144)).bind fun o =>
((match o with
  | none => (pald S12 144 19 2)
  | some v => some v) : Option Int).bind fun w16 =>
(p_X0_held w16 0 10).bind fun v23 =>
some (v23, S12)
set_option maxHeartbeats 4000000 in
theorem rf_X0_reachesBy {g : zGd} {M : Nat} {m0 : zMm} (hL : pLC g (zR m0) M) {W : pW} (hW : pWok g (bC M) m0 W) {m : zMm} (hm : pOk (bC M) m0 m) {a1 : Option Nat} {ca2 na2 : Nat} (ka2 : zK g ((bC M).1 + ca2) = (101, na2)) (za2 : ∀ i, (bC M).2.2 ca2 i) {pa3 : Int} {a3 : Int32} (ea3 : pa3 = a3.toInt) : pRf (qP qI (qM (bC M) m0)) (p_X0_reachesBy W (pI (bC M) m) a1 ca2 na2 pa3) (f_X0_reachesBy g m (some ((bC M).1 + 0)) a1 (some ((bC M).1 + ca2)) a3) := by
  subst ea3
  unfold p_X0_reachesBy f_X0_reachesBy
  refine r_bind (A := (qM (bC M) m0)) (r_rc (c := 0) (lc_o hL) (rf_X0_namesOf hL hm ka2 za2 rfl)) ?_
  rintro S1 m1 ⟨em1, hm1⟩
  change S1 = pI (bC M) m1 at em1; subst em1
  refine r_gr (d := 144) hm1 (lc_o hL) (lc_f6 hL) ?_
  refine r_gr (d := 144) hm1 (lc_o hL) (lc_f6 hL) ?_
  refine r_ald (lc_k144 hL) (eI (4 : Int32) (by decide)) (fun _ => rfl) (fun v4 => ?_)
  refine r_p32 (px_add (px_v _) (px_n (1 : Int32) (by decide))) ?_
  refine r_bind (A := qI) (r_rc (c := 0) (lc_o hL) (rf_X0_whoAt hL hm1 ka2 za2 rfl)) ?_
  rintro pv5 v5 ev5
  change pv5 = v5.toInt at ev5; subst ev5
  refine r_p32 (px_add (px_n (8 : Int32) (by decide)) (px_v _)) ?_
  refine r_ald ka2 rfl (fun _ => rfl) (fun v6 => ?_)
  refine r_gr (d := 144) hm1 (lc_o hL) (lc_f6 hL) ?_
  refine r_ald (lc_k144 hL) (eI (4 : Int32) (by decide)) (fun _ => rfl) (fun v8 => ?_)
  refine r_bind (A := qI) (r_rc (c := 0) (lc_o hL) (rf_X0_many hL hm1)) ?_
  rintro pv9 v9 ev9
  change pv9 = v9.toInt at ev9; subst ev9
  refine r_p32 (px_sub (px_add (px_v _) (px_v _)) (px_n (1 : Int32) (by decide))) ?_
  refine r_bind (A := qI) (r_rc (c := 0) (lc_o hL) (rf_X0_whoAt hL hm1 ka2 za2 rfl)) ?_
  rintro pv10 v10 ev10
  change pv10 = v10.toInt at ev10; subst ev10
  refine r_p32 (px_add (px_n (8 : Int32) (by decide)) (px_v _)) ?_
  refine r_ald ka2 rfl (fun _ => rfl) (fun v11 => ?_)
  refine r_p32 (px_add (px_v _) (px_v _)) ?_
  refine r_ast hm1 (lc_k144 hL) hL.1 (wC (by omega)) (eI (5 : Int32) (by decide)) rfl (fun _ => rfl) (fun m12 hm12 => ?_)
  refine r_law hW hm12 (eI (0 : Int32) (by decide)) (fun o la p h1 h2 h3 => ?_)
  have h7 : zgr g m12 0 6 (some ((bC M).1 + 0)) = some (some ((bC M).1 + 144)) := by
    refine (if_pos (lc_o hL)).trans ?_
    rw [hm12.2, lc_f6 hL]
  cases o with
  | none =>
    have h3 : p = none := h3
    refine r_bind (A := qJ) ?_ ?_
    · rw [if_pos h3]
      refine r_gr (d := 144) hm12 (lc_o hL) (lc_f6 hL) ?_
      have h9 := r_ald (B := bC M) (c := 144) (K := some) (K' := fun v => some v.toInt64) (Q := qJ) (m := m12) (i := 2) (lc_k144 hL) (j := (2 : Int32)) (eI (2 : Int32) (by decide)) (fun _ => rfl) (fun v => r_some (qJ_i (pe_i64 v)))
      intro r hr
      exact h9 r (by show (pald (pI (bC M) m12) 144 19 2).bind some = some r; rw [show pald (pI (bC M) m12) 144 19 2 = some r from hr]; rfl)
    · rintro pw16 w16 ew16
      change pw16 = w16.toInt at ew16; subst ew16
      refine r_bind (A := qI) (rf_X0_held rfl (eI (0 : Int32) (by decide)) (eI (10 : Int32) (by decide))) ?_
      rintro pv15 v15 ev15
      change pv15 = v15.toInt at ev15; subst ev15
      exact r_some (qP_i (qI_i rfl) (qM_i hm12))
  | some v =>
    obtain ⟨h4, z, h5, h6⟩ := h3
    refine r_bind (A := qJ) ?_ ?_
    · rw [if_neg h4]
      have h8 : ((zgr g m12 4 0 a1).bind fun r17 => (zaldr 107 g m12 r17 (0 : Int32)).bind fun r18 => (zgr g m12 0 6 (some ((bC M).1 + 0))).bind fun r19 => ((r_E 70 g m12).1 r18 r19).bind fun w20 => some w20) = some z := by
        rw [h1]
        show ((zaldr 107 g m12 la (0 : Int32)).bind fun r12 => (zgr g m12 0 6 (some ((bC M).1 + 0))).bind fun r13 => ((r_E 70 g m12).1 r12 r13).bind fun w14 => some w14) = some z
        rw [h2]
        show ((zgr g m12 0 6 (some ((bC M).1 + 0))).bind fun r13 => ((r_E 70 g m12).1 p r13).bind fun w14 => some w14) = some z
        rw [h7]
        show (((r_E 70 g m12).1 p (some ((bC M).1 + 144))).bind fun w14 => some w14) = some z
        rw [h5]; rfl
      rw [h8]
      exact r_some (qJ_i h6)
    · rintro pw16 w16 ew16
      change pw16 = w16.toInt at ew16; subst ew16
      refine r_bind (A := qI) (rf_X0_held rfl (eI (0 : Int32) (by decide)) (eI (10 : Int32) (by decide))) ?_
      rintro pv15 v15 ev15
      change pv15 = v15.toInt at ev15; subst ev15
      exact r_some (qP_i (qI_i rfl) (qM_i hm12))
def pb_X0_passes_2 (W : pW) (ca1 na1 : Nat) : (Int × zP) → Option (zP ⊕ (Int × zP)) := fun (v4, S5) =>
(p_X0_many S5).bind fun v6 =>
if v6 ≤ v4 then (some (.inl S5))
else (p32 (2 + v4) fun x1 =>
(pald S5 ca1 na1 x1).bind fun v7 =>
(pald S5 ca1 na1 14).bind fun v8 =>
(p_X0_has v8 v7).bind fun v9 =>
if v9 = 0 then ((p_X0_drawn S5 ca1 na1 10).bind fun (v11, S12) =>
(p_X0_rules W S12).bind fun r13 =>
(p_X0_reachesBy W S12 r13 ca1 na1 v7).bind fun (v14, S15) =>
if v14 ≤ v11 then (p32 (v4 + 1) fun v16 =>
some (.inr (v16, S15)))
else ((p_X0_reaches S15 ca1 na1 v7).bind fun S17 =>
p32 (v4 + 1) fun v18 =>
some (.inr (v18, S17))))
else (p32 (v4 + 1) fun v10 =>
some (.inr (v10, S5))))
set_option maxHeartbeats 4000000 in
theorem rb_X0_passes_2 {g : zGd} {M : Nat} {m0 : zMm} (hL : pLC g (zR m0) M) {W : pW} (hW : pWok g (bC M) m0 W) {ca1 na1 : Nat} (ka1 : zK g ((bC M).1 + ca1) = (101, na1)) (za1 : ∀ i, (bC M).2.2 ca1 i) : ∀ s t, (qP qI (qM (bC M) m0)) s t → pRf (qS (qM (bC M) m0) (qP qI (qM (bC M) m0))) (pb_X0_passes_2 W ca1 na1 s) (b_X0_passes_2 g (some ((bC M).1 + 0)) (some ((bC M).1 + ca1)) t) := by
  rintro ⟨pv4, S5⟩ ⟨v4, m5⟩ ⟨ev4, ⟨em5, hm5⟩⟩
  change pv4 = v4.toInt at ev4; subst ev4
  change S5 = pI (bC M) m5 at em5; subst em5
  unfold pb_X0_passes_2 b_X0_passes_2
  try dsimp only
  refine r_bind (A := qI) (r_rc (B := (bC M)) (c := 0) (lc_o hL) (rf_X0_many hL hm5)) ?_
  rintro pv6 v6 ev6
  change pv6 = v6.toInt at ev6; subst ev6
  refine r_ite (pc_le rfl rfl) ?_ ?_
  · exact r_some (qS_l (qM_i hm5))
  · refine r_p32 (px_add (px_n (2 : Int32) (by decide)) (px_v _)) ?_
    refine r_ald ka1 rfl (fun _ => rfl) (fun v7 => ?_)
    refine r_ald ka1 (eI (14 : Int32) (by decide)) (fun _ => rfl) (fun v8 => ?_)
    refine r_bind (A := qI) (rf_X0_has rfl rfl) ?_
    rintro pv9 v9 ev9
    change pv9 = v9.toInt at ev9; subst ev9
    refine r_ite (pc_eq rfl (eI (0 : Int32) (by decide))) ?_ ?_
    · refine r_bind (A := (qP qI (qM (bC M) m0))) (rf_X0_drawn hL hm5 ka1 za1 (eI (10 : Int32) (by decide))) ?_
      rintro ⟨pv11, S12⟩ ⟨v11, m12⟩ ⟨ev11, ⟨em12, hm12⟩⟩
      change pv11 = v11.toInt at ev11; subst ev11
      change S12 = pI (bC M) m12 at em12; subst em12
      refine r_bind (A := qT) (r_rc (B := (bC M)) (c := 0) (lc_o hL) (rf_X0_rules hL hW hm12)) ?_
      rintro pr13 r13 er13
      change pr13 = r13 at er13; subst er13
      refine r_bind (A := (qP qI (qM (bC M) m0))) (r_rc (B := (bC M)) (c := 0) (lc_o hL) (rf_X0_reachesBy hL hW hm12 ka1 za1 rfl)) ?_
      rintro ⟨pv14, S15⟩ ⟨v14, m15⟩ ⟨ev14, ⟨em15, hm15⟩⟩
      change pv14 = v14.toInt at ev14; subst ev14
      change S15 = pI (bC M) m15 at em15; subst em15
      refine r_ite (pc_le rfl rfl) ?_ ?_
      · refine r_lt32 (px_add (px_v _) (px_n (1 : Int32) (by decide))) (fun v16 => ?_)
        exact r_some (qS_r (qP_i (qI_i rfl) (qM_i hm15)))
      · refine r_bind (A := (qM (bC M) m0)) (rf_X0_reaches hL hm15 ka1 za1 rfl) ?_
        rintro S17 m17 ⟨em17, hm17⟩
        change S17 = pI (bC M) m17 at em17; subst em17
        refine r_lt32 (px_add (px_v _) (px_n (1 : Int32) (by decide))) (fun v18 => ?_)
        exact r_some (qS_r (qP_i (qI_i rfl) (qM_i hm17)))
    · refine r_lt32 (px_add (px_v _) (px_n (1 : Int32) (by decide))) (fun v10 => ?_)
      exact r_some (qS_r (qP_i (qI_i rfl) (qM_i hm5)))
def pb_X0_passes_61 (W : pW) (ca1 na1 : Nat) : (Int × (Int × zP)) → Option ((Int × zP) ⊕ (Int × (Int × zP))) := fun (v23, v24, S25) =>
(p_X0_many S25).bind fun v26 =>
if v26 ≤ v24 then (some (.inl (v23, S25)))
else (p32 (2 + v24) fun x1 =>
(pald S25 ca1 na1 x1).bind fun v27 =>
(pald S25 ca1 na1 14).bind fun v28 =>
(p_X0_has v28 v27).bind fun v29 =>
if v29 = 0 then (p32 (8 + v27) fun x2 =>
(pald S25 ca1 na1 x2).bind fun v31 =>
(p_X0_bearsOf W S25 ca1 na1 v27).bind fun (v32, S33) =>
if v32 < v31 then ((p_X0_looses S33 ca1 na1 v27).bind fun S34 =>
p32 (v23 + 1) fun v35 =>
p32 (v24 + 1) fun v36 =>
some (.inr (v35, v36, S34)))
else (p32 (v24 + 1) fun v37 =>
some (.inr (v23, v37, S33))))
else (p32 (v24 + 1) fun v30 =>
some (.inr (v23, v30, S25))))
set_option maxHeartbeats 4000000 in
theorem rb_X0_passes_61 {g : zGd} {M : Nat} {m0 : zMm} (hL : pLC g (zR m0) M) {W : pW} (hW : pWok g (bC M) m0 W) {ca1 na1 : Nat} (ka1 : zK g ((bC M).1 + ca1) = (101, na1)) (za1 : ∀ i, (bC M).2.2 ca1 i) : ∀ s t, (qP qI (qP qI (qM (bC M) m0))) s t → pRf (qS (qP qI (qM (bC M) m0)) (qP qI (qP qI (qM (bC M) m0)))) (pb_X0_passes_61 W ca1 na1 s) (b_X0_passes_61 g (some ((bC M).1 + 0)) (some ((bC M).1 + ca1)) t) := by
  rintro ⟨pv23, pv24, S25⟩ ⟨v23, v24, m25⟩ ⟨ev23, ev24, ⟨em25, hm25⟩⟩
  change pv23 = v23.toInt at ev23; subst ev23
  change pv24 = v24.toInt at ev24; subst ev24
  change S25 = pI (bC M) m25 at em25; subst em25
  unfold pb_X0_passes_61 b_X0_passes_61
  try dsimp only
  refine r_bind (A := qI) (r_rc (B := (bC M)) (c := 0) (lc_o hL) (rf_X0_many hL hm25)) ?_
  rintro pv26 v26 ev26
  change pv26 = v26.toInt at ev26; subst ev26
  refine r_ite (pc_le rfl rfl) ?_ ?_
  · exact r_some (qS_l (qP_i (qI_i rfl) (qM_i hm25)))
  · refine r_p32 (px_add (px_n (2 : Int32) (by decide)) (px_v _)) ?_
    refine r_ald ka1 rfl (fun _ => rfl) (fun v27 => ?_)
    refine r_ald ka1 (eI (14 : Int32) (by decide)) (fun _ => rfl) (fun v28 => ?_)
    refine r_bind (A := qI) (rf_X0_has rfl rfl) ?_
    rintro pv29 v29 ev29
    change pv29 = v29.toInt at ev29; subst ev29
    refine r_ite (pc_eq rfl (eI (0 : Int32) (by decide))) ?_ ?_
    · refine r_p32 (px_add (px_n (8 : Int32) (by decide)) (px_v _)) ?_
      refine r_ald ka1 rfl (fun _ => rfl) (fun v31 => ?_)
      refine r_bind (A := (qP qI (qM (bC M) m0))) (r_rc (B := (bC M)) (c := 0) (lc_o hL) (rf_X0_bearsOf hL hW hm25 ka1 za1 rfl)) ?_
      rintro ⟨pv32, S33⟩ ⟨v32, m33⟩ ⟨ev32, ⟨em33, hm33⟩⟩
      change pv32 = v32.toInt at ev32; subst ev32
      change S33 = pI (bC M) m33 at em33; subst em33
      refine r_ite (pc_lt rfl rfl) ?_ ?_
      · refine r_bind (A := (qM (bC M) m0)) (r_rc (B := (bC M)) (c := 0) (lc_o hL) (rf_X0_looses hL hm33 ka1 za1 rfl)) ?_
        rintro S34 m34 ⟨em34, hm34⟩
        change S34 = pI (bC M) m34 at em34; subst em34
        refine r_lt32 (px_add (px_v _) (px_n (1 : Int32) (by decide))) (fun v35 => ?_)
        refine r_lt32 (px_add (px_v _) (px_n (1 : Int32) (by decide))) (fun v36 => ?_)
        exact r_some (qS_r (qP_i (qI_i rfl) (qP_i (qI_i rfl) (qM_i hm34))))
      · refine r_lt32 (px_add (px_v _) (px_n (1 : Int32) (by decide))) (fun v37 => ?_)
        exact r_some (qS_r (qP_i (qI_i rfl) (qP_i (qI_i rfl) (qM_i hm33))))
    · refine r_lt32 (px_add (px_v _) (px_n (1 : Int32) (by decide))) (fun v30 => ?_)
      exact r_some (qS_r (qP_i (qI_i rfl) (qP_i (qI_i rfl) (qM_i hm25))))
def p_X0_passes (W : pW) (S : zP) (ca1 na1 : Nat) : Option (Int × zP) :=
(zLoop (pb_X0_passes_2 W ca1 na1) zFuel (0, S)).bind fun S2 =>
(zLoop (pb_X0_passes_61 W ca1 na1) zFuel (0, 0, S2)).bind fun (v20, S21) =>
(pald S21 ca1 na1 0).bind fun v38 =>
p32 (v38 + 1) fun x1 =>
(past S21 ca1 na1 0 x1).bind fun S39 =>
some ((v20, S39))
set_option maxHeartbeats 4000000 in
theorem rf_X0_passes {g : zGd} {M : Nat} {m0 : zMm} (hL : pLC g (zR m0) M) {W : pW} (hW : pWok g (bC M) m0 W) {m : zMm} (hm : pOk (bC M) m0 m) {ca1 na1 : Nat} (ka1 : zK g ((bC M).1 + ca1) = (101, na1)) (za1 : ∀ i, (bC M).2.2 ca1 i) : pRf (qP qI (qM (bC M) m0)) (p_X0_passes W (pI (bC M) m) ca1 na1) (f_X0_passes g m (some ((bC M).1 + 0)) (some ((bC M).1 + ca1))) := by
  unfold p_X0_passes f_X0_passes
  refine r_bind (A := (qM (bC M) m0)) (r_loop (rb_X0_passes_2 hL hW ka1 za1) zFuel _ _ (qP_i (qI_i (eI (0 : Int32) (by decide))) (qM_i hm))) ?_
  rintro S2 m2 ⟨em2, hm2⟩
  change S2 = pI (bC M) m2 at em2; subst em2
  refine r_bind (A := (qP qI (qM (bC M) m0))) (r_loop (rb_X0_passes_61 hL hW ka1 za1) zFuel _ _ (qP_i (qI_i (eI (0 : Int32) (by decide))) (qP_i (qI_i (eI (0 : Int32) (by decide))) (qM_i hm2)))) ?_
  rintro ⟨pv20, S21⟩ ⟨v20, m21⟩ ⟨ev20, ⟨em21, hm21⟩⟩
  change pv20 = v20.toInt at ev20; subst ev20
  change S21 = pI (bC M) m21 at em21; subst em21
  refine r_ald ka1 (eI (0 : Int32) (by decide)) (fun _ => rfl) (fun v38 => ?_)
  refine r_p32 (px_add (px_v _) (px_n (1 : Int32) (by decide))) ?_
  refine r_ast hm21 ka1 hL.1 (za1 _) (eI (0 : Int32) (by decide)) rfl (fun _ => rfl) (fun m39 hm39 => ?_)
  exact r_some (qP_i (qI_i rfl) (qM_i hm39))
def pb_X0_dinner_33 (W : pW) (a1 : Int) : (Int × (Int × zP)) → Option ((Int × zP) ⊕ (Int × (Int × zP))) := fun (v9, v10, S11) =>
if a1 ≤ v10 then (some (.inl (v9, S11)))
else ((p_X1_keeps S11 1).bind fun S13 =>
(p_X0_passes W S13 3 116).bind fun (v16, S17) =>
p32 (v9 + v16) fun v18 =>
p32 (v10 + 1) fun v19 =>
some (.inr (v18, v19, S17)))
set_option maxHeartbeats 4000000 in
theorem rb_X0_dinner_33 {g : zGd} {M : Nat} {m0 : zMm} (hL : pLC g (zR m0) M) {W : pW} (hW : pWok g (bC M) m0 W) {pa1 : Int} {a1 : Int32} (ea1 : pa1 = a1.toInt) : ∀ s t, (qP qI (qP qI (qM (bC M) m0))) s t → pRf (qS (qP qI (qM (bC M) m0)) (qP qI (qP qI (qM (bC M) m0)))) (pb_X0_dinner_33 W pa1 s) (b_X0_dinner_33 g (some ((bC M).1 + 0)) a1 t) := by
  subst ea1
  rintro ⟨pv9, pv10, S11⟩ ⟨v9, v10, m11⟩ ⟨ev9, ev10, ⟨em11, hm11⟩⟩
  change pv9 = v9.toInt at ev9; subst ev9
  change pv10 = v10.toInt at ev10; subst ev10
  change S11 = pI (bC M) m11 at em11; subst em11
  unfold pb_X0_dinner_33 b_X0_dinner_33
  try dsimp only
  refine r_ite (pc_le rfl rfl) ?_ ?_
  · exact r_some (qS_l (qP_i (qI_i rfl) (qM_i hm11)))
  · refine r_gr (d := 1) hm11 (lc_o hL) (lc_f0 hL) ?_
    refine r_bind (A := (qM (bC M) m0)) (r_rc (B := (bC M)) (c := 1) (ls_o (lc_s1 hL)) (rf_X1_keeps hL hm11 (lc_s1 hL) rfl)) ?_
    rintro S13 m13 ⟨em13, hm13⟩
    change S13 = pI (bC M) m13 at em13; subst em13
    refine r_gr (d := 1) hm13 (lc_o hL) (lc_f0 hL) ?_
    refine r_gr (d := 3) hm13 (ls_o (lc_s1 hL)) (ls_f1 (lc_s1 hL)) ?_
    refine r_bind (A := (qP qI (qM (bC M) m0))) (r_rc (B := (bC M)) (c := 0) (lc_o hL) (rf_X0_passes hL hW hm13 (ls_k2 (lc_s1 hL)) (fun _ => wC (by omega)))) ?_
    rintro ⟨pv16, S17⟩ ⟨v16, m17⟩ ⟨ev16, ⟨em17, hm17⟩⟩
    change pv16 = v16.toInt at ev16; subst ev16
    change S17 = pI (bC M) m17 at em17; subst em17
    refine r_lt32 (px_add (px_v _) (px_v _)) (fun v18 => ?_)
    refine r_lt32 (px_add (px_v _) (px_n (1 : Int32) (by decide))) (fun v19 => ?_)
    exact r_some (qS_r (qP_i (qI_i rfl) (qP_i (qI_i rfl) (qM_i hm17))))
def p_X0_dinner (W : pW) (S : zP) (a1 : Int) : Option (Int × zP) :=
(p_X0_in a1 1 60).bind fun v1 =>
if v1 = 0 then (some (((-1), S)))
else ((pald S 3 116 0).bind fun v4 =>
p32 (v4 + a1) fun x1 =>
if x1 ≤ 9999 then ((zLoop (pb_X0_dinner_33 W a1) zFuel (0, 0, S)).bind fun (v6, S7) =>
some ((v6, S7)))
else (some (((-1), S))))
set_option maxHeartbeats 4000000 in
theorem rf_X0_dinner {g : zGd} {M : Nat} {m0 : zMm} (hL : pLC g (zR m0) M) {W : pW} (hW : pWok g (bC M) m0 W) {m : zMm} (hm : pOk (bC M) m0 m) {pa1 : Int} {a1 : Int32} (ea1 : pa1 = a1.toInt) : pRf (qP qI (qM (bC M) m0)) (p_X0_dinner W (pI (bC M) m) pa1) (f_X0_dinner g m (some ((bC M).1 + 0)) a1) := by
  subst ea1
  unfold p_X0_dinner f_X0_dinner
  refine r_bind (A := qI) (rf_X0_in rfl (eI (1 : Int32) (by decide)) (eI (60 : Int32) (by decide))) ?_
  rintro pv1 v1 ev1
  change pv1 = v1.toInt at ev1; subst ev1
  refine r_ite (pc_eq rfl (eI (0 : Int32) (by decide))) ?_ ?_
  · exact r_some (qP_i (qI_i (eI (-1 : Int32) (by decide))) (qM_i hm))
  · refine r_gr (d := 1) hm (lc_o hL) (lc_f0 hL) ?_
    refine r_gr (d := 3) hm (ls_o (lc_s1 hL)) (ls_f1 (lc_s1 hL)) ?_
    refine r_ald (ls_k2 (lc_s1 hL)) (eI (0 : Int32) (by decide)) (fun _ => rfl) (fun v4 => ?_)
    refine r_p32 (px_add (px_v _) (px_v _)) ?_
    refine r_ite (pc_le rfl (eI (9999 : Int32) (by decide))) ?_ ?_
    · refine r_bind (A := (qP qI (qM (bC M) m0))) (r_loop (rb_X0_dinner_33 hL hW rfl) zFuel _ _ (qP_i (qI_i (eI (0 : Int32) (by decide))) (qP_i (qI_i (eI (0 : Int32) (by decide))) (qM_i hm)))) ?_
      rintro ⟨pv6, S7⟩ ⟨v6, m7⟩ ⟨ev6, ⟨em7, hm7⟩⟩
      change pv6 = v6.toInt at ev6; subst ev6
      change S7 = pI (bC M) m7 at em7; subst em7
      exact r_some (qP_i (qI_i rfl) (qM_i hm7))
    · exact r_some (qP_i (qI_i (eI (-1 : Int32) (by decide))) (qM_i hm))
def pb_X0_passesAll_2 (W : pW) (a1 : Int) : (Int × zP) → Option (((Int × zP) ⊕ zP) ⊕ (Int × zP)) := fun (v4, S5) =>
if a1 ≤ v4 then (some (.inl (.inr S5)))
else ((p_X0_dinner W S5 1).bind fun (v6, S7) =>
if v6 = (-1) then (some (.inl (.inl (0, S7))))
else (p32 (v4 + 1) fun v8 =>
some (.inr (v8, S7))))
set_option maxHeartbeats 4000000 in
theorem rb_X0_passesAll_2 {g : zGd} {M : Nat} {m0 : zMm} (hL : pLC g (zR m0) M) {W : pW} (hW : pWok g (bC M) m0 W) {pa1 : Int} {a1 : Int32} (ea1 : pa1 = a1.toInt) : ∀ s t, (qP qI (qM (bC M) m0)) s t → pRf (qS (qS (qP qI (qM (bC M) m0)) (qM (bC M) m0)) (qP qI (qM (bC M) m0))) (pb_X0_passesAll_2 W pa1 s) (b_X0_passesAll_2 g (some ((bC M).1 + 0)) a1 t) := by
  subst ea1
  rintro ⟨pv4, S5⟩ ⟨v4, m5⟩ ⟨ev4, ⟨em5, hm5⟩⟩
  change pv4 = v4.toInt at ev4; subst ev4
  change S5 = pI (bC M) m5 at em5; subst em5
  unfold pb_X0_passesAll_2 b_X0_passesAll_2
  try dsimp only
  refine r_ite (pc_le rfl rfl) ?_ ?_
  · exact r_some (qS_l (qS_r (qM_i hm5)))
  · refine r_bind (A := (qP qI (qM (bC M) m0))) (r_rc (B := (bC M)) (c := 0) (lc_o hL) (rf_X0_dinner hL hW hm5 (eI (1 : Int32) (by decide)))) ?_
    rintro ⟨pv6, S7⟩ ⟨v6, m7⟩ ⟨ev6, ⟨em7, hm7⟩⟩
    change pv6 = v6.toInt at ev6; subst ev6
    change S7 = pI (bC M) m7 at em7; subst em7
    refine r_ite (pc_eq rfl (eI (-1 : Int32) (by decide))) ?_ ?_
    · exact r_some (qS_l (qS_l (qP_i (qI_i (eI (0 : Int32) (by decide))) (qM_i hm7))))
    · refine r_lt32 (px_add (px_v _) (px_n (1 : Int32) (by decide))) (fun v8 => ?_)
      exact r_some (qS_r (qP_i (qI_i rfl) (qM_i hm7)))
def p_X0_passesAll (W : pW) (S : zP) (a1 : Int) : Option (Int × zP) :=
zEx (σ := zP) (zLoop (pb_X0_passesAll_2 W a1) zFuel (0, S)) fun S2 =>
some ((1, S2))
set_option maxHeartbeats 4000000 in
theorem rf_X0_passesAll {g : zGd} {M : Nat} {m0 : zMm} (hL : pLC g (zR m0) M) {W : pW} (hW : pWok g (bC M) m0 W) {m : zMm} (hm : pOk (bC M) m0 m) {pa1 : Int} {a1 : Int32} (ea1 : pa1 = a1.toInt) : pRf (qP qI (qM (bC M) m0)) (p_X0_passesAll W (pI (bC M) m) pa1) (f_X0_passesAll g m (some ((bC M).1 + 0)) a1) := by
  subst ea1
  unfold p_X0_passesAll f_X0_passesAll
  refine r_ex (Q := (qP qI (qM (bC M) m0))) (R := (qM (bC M) m0)) ?_ ?_
  · exact (r_loop (rb_X0_passesAll_2 hL hW rfl) zFuel _ _ (qP_i (qI_i (eI (0 : Int32) (by decide))) (qM_i hm)))
  rintro S2 m2 ⟨em2, hm2⟩
  change S2 = pI (bC M) m2 at em2; subst em2
  exact r_some (qP_i (qI_i (eI (1 : Int32) (by decide))) (qM_i hm2))
def p_X0_befalls (S : zP) (a1 : Int) : Option zP :=
(p_X0_many S).bind fun v1 =>
if v1 = 0 then (some (S))
else ((p_X0_many S).bind fun v2 =>
zlt (pdv a1 6) fun x1 =>
(pmod x1 v2).bind fun v3 =>
(p_X0_many S).bind fun v4 =>
p32 (v3 + 1) fun x2 =>
(pmod x2 v4).bind fun v5 =>
zlt (prm a1 6) fun x3 =>
if x3 = 0 then ((p_X0_canReach S v3).bind fun v6 =>
if v6 = 0 then (some (S))
else ((p_X0_reaches S 3 116 v3).bind fun S9 =>
some (S9)))
else (if x3 = 1 then (p32 (1 + (prm a1 3)) fun x4 =>
(p_X0_canPut S v3 x4).bind fun v10 =>
if v10 = 0 then (some (S))
else (p32 (8 + v3) fun v13 =>
(pald S 3 116 v13).bind fun v14 =>
p32 (v14 - (1 + (prm a1 3))) fun x5 =>
(past S 3 116 v13 x5).bind fun S15 =>
some (S15)))
else (if x3 = 2 then (zlt (prm a1 4) fun x6 =>
if x6 = 2 then ((p_X0_canSwap S v3 v5).bind fun v16 =>
if v16 = 0 then (some (S))
else ((p_X0_seatOf S 3 116 v3).bind fun v21 =>
(p_X0_seatOf S 3 116 v5).bind fun v24 =>
(p_X0_swaps S 3 116 v21 v24).bind fun S25 =>
some (S25)))
else (some (S)))
else (zlt (prm a1 4) fun x7 =>
if x7 = 1 then ((pald S 3 116 14).bind fun v28 =>
zlt (pshl 1 v3) fun x8 =>
zlt (pxor v28 x8) fun x9 =>
(past S 3 116 14 x9).bind fun S29 =>
some (S29))
else (some (S))))))
set_option maxHeartbeats 4000000 in
theorem rf_X0_befalls {g : zGd} {M : Nat} {m0 : zMm} (hL : pLC g (zR m0) M) {m : zMm} (hm : pOk (bC M) m0 m) {pa1 : Int} {a1 : Int32} (ea1 : pa1 = a1.toInt) : pRf (qM (bC M) m0) (p_X0_befalls (pI (bC M) m) pa1) (f_X0_befalls g m (some ((bC M).1 + 0)) a1) := by
  subst ea1
  unfold p_X0_befalls f_X0_befalls
  refine r_bind (A := qI) (r_rc (B := (bC M)) (c := 0) (lc_o hL) (rf_X0_many hL hm)) ?_
  rintro pv1 v1 ev1
  change pv1 = v1.toInt at ev1; subst ev1
  refine r_ite (pc_eq rfl (eI (0 : Int32) (by decide))) ?_ ?_
  · exact r_some (qM_i hm)
  · refine r_bind (A := qI) (r_rc (B := (bC M)) (c := 0) (lc_o hL) (rf_X0_many hL hm)) ?_
    rintro pv2 v2 ev2
    change pv2 = v2.toInt at ev2; subst ev2
    refine r_x32 (pe_dv (by decide) rfl (eI (6 : Int32) (by decide))) ?_
    refine r_mod rfl rfl (fun v3 => ?_)
    refine r_bind (A := qI) (r_rc (B := (bC M)) (c := 0) (lc_o hL) (rf_X0_many hL hm)) ?_
    rintro pv4 v4 ev4
    change pv4 = v4.toInt at ev4; subst ev4
    refine r_p32 (px_add (px_v _) (px_n (1 : Int32) (by decide))) ?_
    refine r_mod rfl rfl (fun v5 => ?_)
    refine r_x32 (pe_rm (by decide) rfl (eI (6 : Int32) (by decide))) ?_
    refine r_ite (pc_eq rfl (eI (0 : Int32) (by decide))) ?_ ?_
    · refine r_bind (A := qI) (r_rc (B := (bC M)) (c := 0) (lc_o hL) (rf_X0_canReach hL hm rfl)) ?_
      rintro pv6 v6 ev6
      change pv6 = v6.toInt at ev6; subst ev6
      refine r_ite (pc_eq rfl (eI (0 : Int32) (by decide))) ?_ ?_
      · exact r_some (qM_i hm)
      · refine r_gr (d := 1) hm (lc_o hL) (lc_f0 hL) ?_
        refine r_gr (d := 3) hm (ls_o (lc_s1 hL)) (ls_f1 (lc_s1 hL)) ?_
        refine r_bind (A := (qM (bC M) m0)) (rf_X0_reaches hL hm (ls_k2 (lc_s1 hL)) (fun _ => wC (by omega)) rfl) ?_
        rintro S9 m9 ⟨em9, hm9⟩
        change S9 = pI (bC M) m9 at em9; subst em9
        exact r_some (qM_i hm9)
    · refine r_ite (pc_eq rfl (eI (1 : Int32) (by decide))) ?_ ?_
      · refine r_p32 (px_add (px_n (1 : Int32) (by decide)) (px_e (pe_rm (by decide) rfl (eI (3 : Int32) (by decide))))) ?_
        refine r_bind (A := qI) (r_rc (B := (bC M)) (c := 0) (lc_o hL) (rf_X0_canPut hL hm rfl rfl)) ?_
        rintro pv10 v10 ev10
        change pv10 = v10.toInt at ev10; subst ev10
        refine r_ite (pc_eq rfl (eI (0 : Int32) (by decide))) ?_ ?_
        · exact r_some (qM_i hm)
        · refine r_gr (d := 1) hm (lc_o hL) (lc_f0 hL) ?_
          refine r_gr (d := 3) hm (ls_o (lc_s1 hL)) (ls_f1 (lc_s1 hL)) ?_
          refine r_lt32 (px_add (px_n (8 : Int32) (by decide)) (px_v _)) (fun v13 => ?_)
          refine r_ald (ls_k2 (lc_s1 hL)) rfl (fun _ => rfl) (fun v14 => ?_)
          refine r_p32 (px_sub (px_v _) (px_add (px_n (1 : Int32) (by decide)) (px_e (pe_rm (by decide) rfl (eI (3 : Int32) (by decide)))))) ?_
          refine r_ast hm (ls_k2 (lc_s1 hL)) hL.1 (wC (by omega)) rfl rfl (fun _ => rfl) (fun m15 hm15 => ?_)
          exact r_some (qM_i hm15)
      · refine r_ite (pc_eq rfl (eI (2 : Int32) (by decide))) ?_ ?_
        · refine r_x32 (pe_rm (by decide) rfl (eI (4 : Int32) (by decide))) ?_
          refine r_ite (pc_eq rfl (eI (2 : Int32) (by decide))) ?_ ?_
          · refine r_bind (A := qI) (r_rc (B := (bC M)) (c := 0) (lc_o hL) (rf_X0_canSwap hL hm rfl rfl)) ?_
            rintro pv16 v16 ev16
            change pv16 = v16.toInt at ev16; subst ev16
            refine r_ite (pc_eq rfl (eI (0 : Int32) (by decide))) ?_ ?_
            · exact r_some (qM_i hm)
            · refine r_gr (d := 1) hm (lc_o hL) (lc_f0 hL) ?_
              refine r_gr (d := 3) hm (ls_o (lc_s1 hL)) (ls_f1 (lc_s1 hL)) ?_
              refine r_gr (d := 1) hm (lc_o hL) (lc_f0 hL) ?_
              refine r_gr (d := 3) hm (ls_o (lc_s1 hL)) (ls_f1 (lc_s1 hL)) ?_
              refine r_bind (A := qI) (r_rc (B := (bC M)) (c := 0) (lc_o hL) (rf_X0_seatOf hL hm (ls_k2 (lc_s1 hL)) (fun _ => wC (by omega)) rfl)) ?_
              rintro pv21 v21 ev21
              change pv21 = v21.toInt at ev21; subst ev21
              refine r_gr (d := 1) hm (lc_o hL) (lc_f0 hL) ?_
              refine r_gr (d := 3) hm (ls_o (lc_s1 hL)) (ls_f1 (lc_s1 hL)) ?_
              refine r_bind (A := qI) (r_rc (B := (bC M)) (c := 0) (lc_o hL) (rf_X0_seatOf hL hm (ls_k2 (lc_s1 hL)) (fun _ => wC (by omega)) rfl)) ?_
              rintro pv24 v24 ev24
              change pv24 = v24.toInt at ev24; subst ev24
              refine r_bind (A := (qM (bC M) m0)) (rf_X0_swaps hL hm (ls_k2 (lc_s1 hL)) (fun _ => wC (by omega)) rfl rfl) ?_
              rintro S25 m25 ⟨em25, hm25⟩
              change S25 = pI (bC M) m25 at em25; subst em25
              exact r_some (qM_i hm25)
          · exact r_some (qM_i hm)
        · refine r_x32 (pe_rm (by decide) rfl (eI (4 : Int32) (by decide))) ?_
          refine r_ite (pc_eq rfl (eI (1 : Int32) (by decide))) ?_ ?_
          · refine r_gr (d := 1) hm (lc_o hL) (lc_f0 hL) ?_
            refine r_gr (d := 3) hm (ls_o (lc_s1 hL)) (ls_f1 (lc_s1 hL)) ?_
            refine r_ald (ls_k2 (lc_s1 hL)) (eI (14 : Int32) (by decide)) (fun _ => rfl) (fun v28 => ?_)
            refine r_x32 (pe_shl (eI (1 : Int32) (by decide)) rfl) ?_
            refine r_x32 (pe_xor rfl rfl) ?_
            refine r_ast hm (ls_k2 (lc_s1 hL)) hL.1 (wC (by omega)) (eI (14 : Int32) (by decide)) rfl (fun _ => rfl) (fun m29 hm29 => ?_)
            exact r_some (qM_i hm29)
          · exact r_some (qM_i hm)
def pb_X0_years_51 (W : pW) (a2 : Int) : (Int × (Int × zP)) → Option (zP ⊕ (Int × (Int × zP))) := fun (v11, v12, S13) =>
if a2 ≤ v12 then (some (.inl S13))
else ((pald S13 3 116 1).bind fun v16 =>
(p_X0_drawn S13 3 116 10).bind fun (v19, S20) =>
zlt (prm v16 6) fun x1 =>
if 4 ≤ x1 then ((pald S20 3 116 0).bind fun v23 =>
if 9999 ≤ v23 then (p32 (v12 + 1) fun v24 =>
some (.inr (v11, v24, S20)))
else ((p_X0_passes W S20 3 116).bind fun (v27, S28) =>
p32 (v11 + v27) fun v29 =>
p32 (v12 + 1) fun v30 =>
some (.inr (v29, v30, S28))))
else ((p_X0_befalls S20 v16).bind fun S31 =>
p32 (v12 + 1) fun v32 =>
some (.inr (v11, v32, S31))))
set_option maxHeartbeats 4000000 in
theorem rb_X0_years_51 {g : zGd} {M : Nat} {m0 : zMm} (hL : pLC g (zR m0) M) {W : pW} (hW : pWok g (bC M) m0 W) {pa2 : Int} {a2 : Int32} (ea2 : pa2 = a2.toInt) : ∀ s t, (qP qI (qP qI (qM (bC M) m0))) s t → pRf (qS (qM (bC M) m0) (qP qI (qP qI (qM (bC M) m0)))) (pb_X0_years_51 W pa2 s) (b_X0_years_51 g (some ((bC M).1 + 0)) a2 t) := by
  subst ea2
  rintro ⟨pv11, pv12, S13⟩ ⟨v11, v12, m13⟩ ⟨ev11, ev12, ⟨em13, hm13⟩⟩
  change pv11 = v11.toInt at ev11; subst ev11
  change pv12 = v12.toInt at ev12; subst ev12
  change S13 = pI (bC M) m13 at em13; subst em13
  unfold pb_X0_years_51 b_X0_years_51
  try dsimp only
  refine r_ite (pc_le rfl rfl) ?_ ?_
  · exact r_some (qS_l (qM_i hm13))
  · refine r_gr (d := 1) hm13 (lc_o hL) (lc_f0 hL) ?_
    refine r_gr (d := 3) hm13 (ls_o (lc_s1 hL)) (ls_f1 (lc_s1 hL)) ?_
    refine r_ald (ls_k2 (lc_s1 hL)) (eI (1 : Int32) (by decide)) (fun _ => rfl) (fun v16 => ?_)
    refine r_gr (d := 1) hm13 (lc_o hL) (lc_f0 hL) ?_
    refine r_gr (d := 3) hm13 (ls_o (lc_s1 hL)) (ls_f1 (lc_s1 hL)) ?_
    refine r_bind (A := (qP qI (qM (bC M) m0))) (rf_X0_drawn hL hm13 (ls_k2 (lc_s1 hL)) (fun _ => wC (by omega)) (eI (10 : Int32) (by decide))) ?_
    rintro ⟨pv19, S20⟩ ⟨v19, m20⟩ ⟨ev19, ⟨em20, hm20⟩⟩
    change pv19 = v19.toInt at ev19; subst ev19
    change S20 = pI (bC M) m20 at em20; subst em20
    refine r_x32 (pe_rm (by decide) rfl (eI (6 : Int32) (by decide))) ?_
    refine r_ite (pc_le (eI (4 : Int32) (by decide)) rfl) ?_ ?_
    · refine r_gr (d := 1) hm20 (lc_o hL) (lc_f0 hL) ?_
      refine r_gr (d := 3) hm20 (ls_o (lc_s1 hL)) (ls_f1 (lc_s1 hL)) ?_
      refine r_ald (ls_k2 (lc_s1 hL)) (eI (0 : Int32) (by decide)) (fun _ => rfl) (fun v23 => ?_)
      refine r_ite (pc_le (eI (9999 : Int32) (by decide)) rfl) ?_ ?_
      · refine r_lt32 (px_add (px_v _) (px_n (1 : Int32) (by decide))) (fun v24 => ?_)
        exact r_some (qS_r (qP_i (qI_i rfl) (qP_i (qI_i rfl) (qM_i hm20))))
      · refine r_gr (d := 1) hm20 (lc_o hL) (lc_f0 hL) ?_
        refine r_gr (d := 3) hm20 (ls_o (lc_s1 hL)) (ls_f1 (lc_s1 hL)) ?_
        refine r_bind (A := (qP qI (qM (bC M) m0))) (r_rc (B := (bC M)) (c := 0) (lc_o hL) (rf_X0_passes hL hW hm20 (ls_k2 (lc_s1 hL)) (fun _ => wC (by omega)))) ?_
        rintro ⟨pv27, S28⟩ ⟨v27, m28⟩ ⟨ev27, ⟨em28, hm28⟩⟩
        change pv27 = v27.toInt at ev27; subst ev27
        change S28 = pI (bC M) m28 at em28; subst em28
        refine r_lt32 (px_add (px_v _) (px_v _)) (fun v29 => ?_)
        refine r_lt32 (px_add (px_v _) (px_n (1 : Int32) (by decide))) (fun v30 => ?_)
        exact r_some (qS_r (qP_i (qI_i rfl) (qP_i (qI_i rfl) (qM_i hm28))))
    · refine r_bind (A := (qM (bC M) m0)) (r_rc (B := (bC M)) (c := 0) (lc_o hL) (rf_X0_befalls hL hm20 rfl)) ?_
      rintro S31 m31 ⟨em31, hm31⟩
      change S31 = pI (bC M) m31 at em31; subst em31
      refine r_lt32 (px_add (px_v _) (px_n (1 : Int32) (by decide))) (fun v32 => ?_)
      exact r_some (qS_r (qP_i (qI_i rfl) (qP_i (qI_i rfl) (qM_i hm31))))
def p_X0_years (W : pW) (S : zP) (a1 : Int) (a2 : Int) : Option (Int × zP) :=
(p_X0_in a1 0 9999).bind fun v1 =>
if v1 = 0 then (some (((-1), S)))
else ((p_X0_in a2 1 40).bind fun v2 =>
if v2 = 0 then (some (((-1), S)))
else ((p_X1_keeps S 1).bind fun S4 =>
p32 ((a1 * 2) + 421) fun x1 =>
(past S4 3 116 1 x1).bind fun S7 =>
(zLoop (pb_X0_years_51 W a2) zFuel (0, 0, S7)).bind fun S9 =>
(pald S9 3 116 0).bind fun v35 =>
some ((v35, S9))))
set_option maxHeartbeats 4000000 in
theorem rf_X0_years {g : zGd} {M : Nat} {m0 : zMm} (hL : pLC g (zR m0) M) {W : pW} (hW : pWok g (bC M) m0 W) {m : zMm} (hm : pOk (bC M) m0 m) {pa1 : Int} {a1 : Int32} (ea1 : pa1 = a1.toInt) {pa2 : Int} {a2 : Int32} (ea2 : pa2 = a2.toInt) : pRf (qP qI (qM (bC M) m0)) (p_X0_years W (pI (bC M) m) pa1 pa2) (f_X0_years g m (some ((bC M).1 + 0)) a1 a2) := by
  subst ea1
  subst ea2
  unfold p_X0_years f_X0_years
  refine r_bind (A := qI) (rf_X0_in rfl (eI (0 : Int32) (by decide)) (eI (9999 : Int32) (by decide))) ?_
  rintro pv1 v1 ev1
  change pv1 = v1.toInt at ev1; subst ev1
  refine r_ite (pc_eq rfl (eI (0 : Int32) (by decide))) ?_ ?_
  · exact r_some (qP_i (qI_i (eI (-1 : Int32) (by decide))) (qM_i hm))
  · refine r_bind (A := qI) (rf_X0_in rfl (eI (1 : Int32) (by decide)) (eI (40 : Int32) (by decide))) ?_
    rintro pv2 v2 ev2
    change pv2 = v2.toInt at ev2; subst ev2
    refine r_ite (pc_eq rfl (eI (0 : Int32) (by decide))) ?_ ?_
    · exact r_some (qP_i (qI_i (eI (-1 : Int32) (by decide))) (qM_i hm))
    · refine r_gr (d := 1) hm (lc_o hL) (lc_f0 hL) ?_
      refine r_bind (A := (qM (bC M) m0)) (r_rc (B := (bC M)) (c := 1) (ls_o (lc_s1 hL)) (rf_X1_keeps hL hm (lc_s1 hL) rfl)) ?_
      rintro S4 m4 ⟨em4, hm4⟩
      change S4 = pI (bC M) m4 at em4; subst em4
      refine r_gr (d := 1) hm4 (lc_o hL) (lc_f0 hL) ?_
      refine r_gr (d := 3) hm4 (ls_o (lc_s1 hL)) (ls_f1 (lc_s1 hL)) ?_
      refine r_p32 (px_add (px_mul (px_v _) (px_n (2 : Int32) (by decide))) (px_n (421 : Int32) (by decide))) ?_
      refine r_ast hm4 (ls_k2 (lc_s1 hL)) hL.1 (wC (by omega)) (eI (1 : Int32) (by decide)) rfl (fun _ => rfl) (fun m7 hm7 => ?_)
      refine r_bind (A := (qM (bC M) m0)) (r_loop (rb_X0_years_51 hL hW rfl) zFuel _ _ (qP_i (qI_i (eI (0 : Int32) (by decide))) (qP_i (qI_i (eI (0 : Int32) (by decide))) (qM_i hm7)))) ?_
      rintro S9 m9 ⟨em9, hm9⟩
      change S9 = pI (bC M) m9 at em9; subst em9
      refine r_gr (d := 1) hm9 (lc_o hL) (lc_f0 hL) ?_
      refine r_gr (d := 3) hm9 (ls_o (lc_s1 hL)) (ls_f1 (lc_s1 hL)) ?_
      refine r_ald (ls_k2 (lc_s1 hL)) (eI (0 : Int32) (by decide)) (fun _ => rfl) (fun v35 => ?_)
      exact r_some (qP_i (qI_i rfl) (qM_i hm9))
def p_X0_undo (S : zP) : Option (Int × zP) :=
(pald S 2 7 3).bind fun v3 =>
if v3 = 0 then (some (((-1), S)))
else ((pald S 2 7 3).bind fun v6 =>
p32 (v6 - 1) fun x1 =>
(past S 2 7 3 x1).bind fun S7 =>
(pald S7 2 7 3).bind fun v12 =>
(pidx 30 v12).bind fun q2 =>
(p_X1_copy S7 (41 + q2) 116 3 116).bind fun S16 =>
(pald S16 2 7 3).bind fun v19 =>
some ((v19, S16)))
set_option maxHeartbeats 4000000 in
theorem rf_X0_undo {g : zGd} {M : Nat} {m0 : zMm} (hL : pLC g (zR m0) M) {m : zMm} (hm : pOk (bC M) m0 m) : pRf (qP qI (qM (bC M) m0)) (p_X0_undo (pI (bC M) m)) (f_X0_undo g m (some ((bC M).1 + 0))) := by
  unfold p_X0_undo f_X0_undo
  refine r_gr (d := 1) hm (lc_o hL) (lc_f0 hL) ?_
  refine r_gr (d := 2) hm (ls_o (lc_s1 hL)) (ls_f0 (lc_s1 hL)) ?_
  refine r_ald (ls_k1 (lc_s1 hL)) (eI (3 : Int32) (by decide)) (fun _ => rfl) (fun v3 => ?_)
  refine r_ite (pc_eq rfl (eI (0 : Int32) (by decide))) ?_ ?_
  · exact r_some (qP_i (qI_i (eI (-1 : Int32) (by decide))) (qM_i hm))
  · refine r_gr (d := 1) hm (lc_o hL) (lc_f0 hL) ?_
    refine r_gr (d := 2) hm (ls_o (lc_s1 hL)) (ls_f0 (lc_s1 hL)) ?_
    refine r_ald (ls_k1 (lc_s1 hL)) (eI (3 : Int32) (by decide)) (fun _ => rfl) (fun v6 => ?_)
    refine r_p32 (px_sub (px_v _) (px_n (1 : Int32) (by decide))) ?_
    refine r_ast hm (ls_k1 (lc_s1 hL)) hL.1 (wC (by omega)) (eI (3 : Int32) (by decide)) rfl (fun _ => rfl) (fun m7 hm7 => ?_)
    refine r_gr (d := 1) hm7 (lc_o hL) (lc_f0 hL) ?_
    refine r_gr (d := 40) hm7 (ls_o (lc_s1 hL)) (ls_f10 (lc_s1 hL)) ?_
    refine r_gr (d := 1) hm7 (lc_o hL) (lc_f0 hL) ?_
    refine r_gr (d := 2) hm7 (ls_o (lc_s1 hL)) (ls_f0 (lc_s1 hL)) ?_
    refine r_ald (ls_k1 (lc_s1 hL)) (eI (3 : Int32) (by decide)) (fun _ => rfl) (fun v12 => ?_)
    refine r_aldr (d := 41) hm7 (ls_k39 (lc_s1 hL)) rfl (ls_r39 (lc_s1 hL)) (fun q2 hq2 => ?_)
    refine r_gr (d := 1) hm7 (lc_o hL) (lc_f0 hL) ?_
    refine r_gr (d := 3) hm7 (ls_o (lc_s1 hL)) (ls_f1 (lc_s1 hL)) ?_
    refine r_bind (A := (qM (bC M) m0)) (rf_X1_copy hL hm7 ((ls_e39 (lc_s1 hL)) q2 hq2) (fun _ => wC (by have := hq2; omega)) (by decide) (ls_k2 (lc_s1 hL)) (fun _ => wC (by omega)) (by decide)) ?_
    rintro S16 m16 ⟨em16, hm16⟩
    change S16 = pI (bC M) m16 at em16; subst em16
    refine r_gr (d := 1) hm16 (lc_o hL) (lc_f0 hL) ?_
    refine r_gr (d := 2) hm16 (ls_o (lc_s1 hL)) (ls_f0 (lc_s1 hL)) ?_
    refine r_ald (ls_k1 (lc_s1 hL)) (eI (3 : Int32) (by decide)) (fun _ => rfl) (fun v19 => ?_)
    exact r_some (qP_i (qI_i rfl) (qM_i hm16))
def p_X0_of (W : pW) (S : zP) (a1 : Int) (a2 : Int) : Option (Int × zP) :=
(p_X0_isKin S a1).bind fun v1 =>
if v1 = 0 then (some (((-1), S)))
else (if a2 = 0 then ((pald S 4 6 a1).bind fun v4 =>
some ((v4, S)))
else (if a2 = 1 then (p32 (8 + a1) fun x1 =>
(pald S 3 116 x1).bind fun v7 =>
some ((v7, S)))
else (if a2 = 2 then ((p_X0_seatOf S 3 116 a1).bind fun v10 =>
some ((v10, S)))
else (if a2 = 3 then ((pald S 3 116 14).bind fun v13 =>
zlt (pshr v13 a1) fun x2 =>
zlt (pand x2 1) fun x3 =>
some ((x3, S)))
else (if a2 = 4 then ((p_X0_rules W S).bind fun r14 =>
(p_X0_reachesBy W S r14 3 116 a1).bind fun (v17, S18) =>
some ((v17, S18)))
else (if a2 = 5 then ((p_X0_bearsOf W S 3 116 a1).bind fun (v21, S22) =>
some ((v21, S22)))
else (if a2 = 6 then ((p_X0_acrossOf S 3 116 a1).bind fun v25 =>
some ((v25, S)))
else (some (((-1), S))))))))))
set_option maxHeartbeats 4000000 in
theorem rf_X0_of {g : zGd} {M : Nat} {m0 : zMm} (hL : pLC g (zR m0) M) {W : pW} (hW : pWok g (bC M) m0 W) {m : zMm} (hm : pOk (bC M) m0 m) {pa1 : Int} {a1 : Int32} (ea1 : pa1 = a1.toInt) {pa2 : Int} {a2 : Int32} (ea2 : pa2 = a2.toInt) : pRf (qP qI (qM (bC M) m0)) (p_X0_of W (pI (bC M) m) pa1 pa2) (f_X0_of g m (some ((bC M).1 + 0)) a1 a2) := by
  subst ea1
  subst ea2
  unfold p_X0_of f_X0_of
  refine r_bind (A := qI) (r_rc (B := (bC M)) (c := 0) (lc_o hL) (rf_X0_isKin hL hm rfl)) ?_
  rintro pv1 v1 ev1
  change pv1 = v1.toInt at ev1; subst ev1
  refine r_ite (pc_eq rfl (eI (0 : Int32) (by decide))) ?_ ?_
  · exact r_some (qP_i (qI_i (eI (-1 : Int32) (by decide))) (qM_i hm))
  · refine r_ite (pc_eq rfl (eI (0 : Int32) (by decide))) ?_ ?_
    · refine r_gr (d := 1) hm (lc_o hL) (lc_f0 hL) ?_
      refine r_gr (d := 4) hm (ls_o (lc_s1 hL)) (ls_f2 (lc_s1 hL)) ?_
      refine r_ald (ls_k3 (lc_s1 hL)) rfl (fun _ => rfl) (fun v4 => ?_)
      exact r_some (qP_i (qI_i rfl) (qM_i hm))
    · refine r_ite (pc_eq rfl (eI (1 : Int32) (by decide))) ?_ ?_
      · refine r_gr (d := 1) hm (lc_o hL) (lc_f0 hL) ?_
        refine r_gr (d := 3) hm (ls_o (lc_s1 hL)) (ls_f1 (lc_s1 hL)) ?_
        refine r_p32 (px_add (px_n (8 : Int32) (by decide)) (px_v _)) ?_
        refine r_ald (ls_k2 (lc_s1 hL)) rfl (fun _ => rfl) (fun v7 => ?_)
        exact r_some (qP_i (qI_i rfl) (qM_i hm))
      · refine r_ite (pc_eq rfl (eI (2 : Int32) (by decide))) ?_ ?_
        · refine r_gr (d := 1) hm (lc_o hL) (lc_f0 hL) ?_
          refine r_gr (d := 3) hm (ls_o (lc_s1 hL)) (ls_f1 (lc_s1 hL)) ?_
          refine r_bind (A := qI) (r_rc (B := (bC M)) (c := 0) (lc_o hL) (rf_X0_seatOf hL hm (ls_k2 (lc_s1 hL)) (fun _ => wC (by omega)) rfl)) ?_
          rintro pv10 v10 ev10
          change pv10 = v10.toInt at ev10; subst ev10
          exact r_some (qP_i (qI_i rfl) (qM_i hm))
        · refine r_ite (pc_eq rfl (eI (3 : Int32) (by decide))) ?_ ?_
          · refine r_gr (d := 1) hm (lc_o hL) (lc_f0 hL) ?_
            refine r_gr (d := 3) hm (ls_o (lc_s1 hL)) (ls_f1 (lc_s1 hL)) ?_
            refine r_ald (ls_k2 (lc_s1 hL)) (eI (14 : Int32) (by decide)) (fun _ => rfl) (fun v13 => ?_)
            refine r_x32 (pe_shr rfl rfl) ?_
            refine r_x32 (pe_and rfl (eI (1 : Int32) (by decide))) ?_
            exact r_some (qP_i (qI_i rfl) (qM_i hm))
          · refine r_ite (pc_eq rfl (eI (4 : Int32) (by decide))) ?_ ?_
            · refine r_bind (A := qT) (r_rc (B := (bC M)) (c := 0) (lc_o hL) (rf_X0_rules hL hW hm)) ?_
              rintro pr14 r14 er14
              change pr14 = r14 at er14; subst er14
              refine r_gr (d := 1) hm (lc_o hL) (lc_f0 hL) ?_
              refine r_gr (d := 3) hm (ls_o (lc_s1 hL)) (ls_f1 (lc_s1 hL)) ?_
              refine r_bind (A := (qP qI (qM (bC M) m0))) (r_rc (B := (bC M)) (c := 0) (lc_o hL) (rf_X0_reachesBy hL hW hm (ls_k2 (lc_s1 hL)) (fun _ => wC (by omega)) rfl)) ?_
              rintro ⟨pv17, S18⟩ ⟨v17, m18⟩ ⟨ev17, ⟨em18, hm18⟩⟩
              change pv17 = v17.toInt at ev17; subst ev17
              change S18 = pI (bC M) m18 at em18; subst em18
              exact r_some (qP_i (qI_i rfl) (qM_i hm18))
            · refine r_ite (pc_eq rfl (eI (5 : Int32) (by decide))) ?_ ?_
              · refine r_gr (d := 1) hm (lc_o hL) (lc_f0 hL) ?_
                refine r_gr (d := 3) hm (ls_o (lc_s1 hL)) (ls_f1 (lc_s1 hL)) ?_
                refine r_bind (A := (qP qI (qM (bC M) m0))) (r_rc (B := (bC M)) (c := 0) (lc_o hL) (rf_X0_bearsOf hL hW hm (ls_k2 (lc_s1 hL)) (fun _ => wC (by omega)) rfl)) ?_
                rintro ⟨pv21, S22⟩ ⟨v21, m22⟩ ⟨ev21, ⟨em22, hm22⟩⟩
                change pv21 = v21.toInt at ev21; subst ev21
                change S22 = pI (bC M) m22 at em22; subst em22
                exact r_some (qP_i (qI_i rfl) (qM_i hm22))
              · refine r_ite (pc_eq rfl (eI (6 : Int32) (by decide))) ?_ ?_
                · refine r_gr (d := 1) hm (lc_o hL) (lc_f0 hL) ?_
                  refine r_gr (d := 3) hm (ls_o (lc_s1 hL)) (ls_f1 (lc_s1 hL)) ?_
                  refine r_bind (A := qI) (r_rc (B := (bC M)) (c := 0) (lc_o hL) (rf_X0_acrossOf hL hm (ls_k2 (lc_s1 hL)) (fun _ => wC (by omega)) rfl)) ?_
                  rintro pv25 v25 ev25
                  change pv25 = v25.toInt at ev25; subst ev25
                  exact r_some (qP_i (qI_i rfl) (qM_i hm))
                · exact r_some (qP_i (qI_i (eI (-1 : Int32) (by decide))) (qM_i hm))
def p_X0_at (S : zP) (a1 : Int) : Option Int :=
(p_X0_isKin S a1).bind fun v1 =>
if v1 = 0 then (some ((-1)))
else (p32 (2 + a1) fun x1 =>
(pald S 3 116 x1).bind fun v4 =>
some (v4))
set_option maxHeartbeats 4000000 in
theorem rf_X0_at {g : zGd} {M : Nat} {m0 : zMm} (hL : pLC g (zR m0) M) {m : zMm} (hm : pOk (bC M) m0 m) {pa1 : Int} {a1 : Int32} (ea1 : pa1 = a1.toInt) : pRf qI (p_X0_at (pI (bC M) m) pa1) (f_X0_at g m (some ((bC M).1 + 0)) a1) := by
  subst ea1
  unfold p_X0_at f_X0_at
  refine r_bind (A := qI) (r_rc (B := (bC M)) (c := 0) (lc_o hL) (rf_X0_isKin hL hm rfl)) ?_
  rintro pv1 v1 ev1
  change pv1 = v1.toInt at ev1; subst ev1
  refine r_ite (pc_eq rfl (eI (0 : Int32) (by decide))) ?_ ?_
  · exact r_some (qI_i (eI (-1 : Int32) (by decide)))
  · refine r_gr (d := 1) hm (lc_o hL) (lc_f0 hL) ?_
    refine r_gr (d := 3) hm (ls_o (lc_s1 hL)) (ls_f1 (lc_s1 hL)) ?_
    refine r_p32 (px_add (px_n (2 : Int32) (by decide)) (px_v _)) ?_
    refine r_ald (ls_k2 (lc_s1 hL)) rfl (fun _ => rfl) (fun v4 => ?_)
    exact r_some (qI_i rfl)
def pb_X0_keptOfAll_4 (S : zP) : (Int × Int) → Option (Int ⊕ (Int × Int)) := fun (v4, v5) =>
(p_X0_many S).bind fun v6 =>
if v6 ≤ v5 then (some (.inl v4))
else (p32 (8 + v5) fun x1 =>
(pald S 3 116 x1).bind fun v9 =>
p32 (v4 + v9) fun v10 =>
p32 (v5 + 1) fun v11 =>
some (.inr (v10, v11)))
set_option maxHeartbeats 4000000 in
theorem rb_X0_keptOfAll_4 {g : zGd} {M : Nat} {m0 : zMm} (hL : pLC g (zR m0) M) {m : zMm} (hm : pOk (bC M) m0 m) : ∀ s t, (qP qI qI) s t → pRf (qS qI (qP qI qI)) (pb_X0_keptOfAll_4 (pI (bC M) m) s) (b_X0_keptOfAll_4 g m (some ((bC M).1 + 0)) t) := by
  rintro ⟨pv4, pv5⟩ ⟨v4, v5⟩ ⟨ev4, ev5⟩
  change pv4 = v4.toInt at ev4; subst ev4
  change pv5 = v5.toInt at ev5; subst ev5
  unfold pb_X0_keptOfAll_4 b_X0_keptOfAll_4
  try dsimp only
  refine r_bind (A := qI) (r_rc (B := (bC M)) (c := 0) (lc_o hL) (rf_X0_many hL hm)) ?_
  rintro pv6 v6 ev6
  change pv6 = v6.toInt at ev6; subst ev6
  refine r_ite (pc_le rfl rfl) ?_ ?_
  · exact r_some (qS_l (qI_i rfl))
  · refine r_gr (d := 1) hm (lc_o hL) (lc_f0 hL) ?_
    refine r_gr (d := 3) hm (ls_o (lc_s1 hL)) (ls_f1 (lc_s1 hL)) ?_
    refine r_p32 (px_add (px_n (8 : Int32) (by decide)) (px_v _)) ?_
    refine r_ald (ls_k2 (lc_s1 hL)) rfl (fun _ => rfl) (fun v9 => ?_)
    refine r_lt32 (px_add (px_v _) (px_v _)) (fun v10 => ?_)
    refine r_lt32 (px_add (px_v _) (px_n (1 : Int32) (by decide))) (fun v11 => ?_)
    exact r_some (qS_r (qP_i (qI_i rfl) (qI_i rfl)))
def p_X0_keptOfAll (S : zP) : Option Int :=
(zLoop (pb_X0_keptOfAll_4 S) zFuel (0, 0)).bind fun v2 =>
some (v2)
set_option maxHeartbeats 4000000 in
theorem rf_X0_keptOfAll {g : zGd} {M : Nat} {m0 : zMm} (hL : pLC g (zR m0) M) {m : zMm} (hm : pOk (bC M) m0 m) : pRf qI (p_X0_keptOfAll (pI (bC M) m)) (f_X0_keptOfAll g m (some ((bC M).1 + 0))) := by
  unfold p_X0_keptOfAll f_X0_keptOfAll
  refine r_bind (A := qI) (r_loop (rb_X0_keptOfAll_4 hL hm) zFuel _ _ (qP_i (qI_i (eI (0 : Int32) (by decide))) (qI_i (eI (0 : Int32) (by decide))))) ?_
  rintro pv2 v2 ev2
  change pv2 = v2.toInt at ev2; subst ev2
  exact r_some (qI_i rfl)
def p_X0_is (S : zP) (a1 : Int) : Option Int :=
if a1 = 0 then ((pald S 3 116 0).bind fun v3 =>
some (v3))
else (if a1 = 1 then ((pald S 3 116 1).bind fun v6 =>
some (v6))
else (if a1 = 2 then ((p_X0_keptOfAll S).bind fun v7 =>
some (v7))
else (if a1 = 3 then ((pald S 3 116 14).bind fun v10 =>
some (v10))
else (some ((-2))))))
set_option maxHeartbeats 4000000 in
theorem rf_X0_is {g : zGd} {M : Nat} {m0 : zMm} (hL : pLC g (zR m0) M) {m : zMm} (hm : pOk (bC M) m0 m) {pa1 : Int} {a1 : Int32} (ea1 : pa1 = a1.toInt) : pRf qI (p_X0_is (pI (bC M) m) pa1) (f_X0_is g m (some ((bC M).1 + 0)) a1) := by
  subst ea1
  unfold p_X0_is f_X0_is
  refine r_ite (pc_eq rfl (eI (0 : Int32) (by decide))) ?_ ?_
  · refine r_gr (d := 1) hm (lc_o hL) (lc_f0 hL) ?_
    refine r_gr (d := 3) hm (ls_o (lc_s1 hL)) (ls_f1 (lc_s1 hL)) ?_
    refine r_ald (ls_k2 (lc_s1 hL)) (eI (0 : Int32) (by decide)) (fun _ => rfl) (fun v3 => ?_)
    exact r_some (qI_i rfl)
  · refine r_ite (pc_eq rfl (eI (1 : Int32) (by decide))) ?_ ?_
    · refine r_gr (d := 1) hm (lc_o hL) (lc_f0 hL) ?_
      refine r_gr (d := 3) hm (ls_o (lc_s1 hL)) (ls_f1 (lc_s1 hL)) ?_
      refine r_ald (ls_k2 (lc_s1 hL)) (eI (1 : Int32) (by decide)) (fun _ => rfl) (fun v6 => ?_)
      exact r_some (qI_i rfl)
    · refine r_ite (pc_eq rfl (eI (2 : Int32) (by decide))) ?_ ?_
      · refine r_bind (A := qI) (r_rc (B := (bC M)) (c := 0) (lc_o hL) (rf_X0_keptOfAll hL hm)) ?_
        rintro pv7 v7 ev7
        change pv7 = v7.toInt at ev7; subst ev7
        exact r_some (qI_i rfl)
      · refine r_ite (pc_eq rfl (eI (3 : Int32) (by decide))) ?_ ?_
        · refine r_gr (d := 1) hm (lc_o hL) (lc_f0 hL) ?_
          refine r_gr (d := 3) hm (ls_o (lc_s1 hL)) (ls_f1 (lc_s1 hL)) ?_
          refine r_ald (ls_k2 (lc_s1 hL)) (eI (14 : Int32) (by decide)) (fun _ => rfl) (fun v10 => ?_)
          exact r_some (qI_i rfl)
        · exact r_some (qI_i (eI (-2 : Int32) (by decide)))
def p_X0_book (S : zP) (a1 : Int) (a2 : Int) : Option Int :=
if a1 = (-1) then ((pald S 3 116 15).bind fun v11 =>
some (v11))
else ((pald S 3 116 15).bind fun v3 =>
p32 (v3 - 1) fun x1 =>
(p_X0_in a1 0 x1).bind fun v4 =>
if v4 = 0 then (some ((-2)))
else ((p_X0_in a2 0 3).bind fun v5 =>
if v5 = 0 then (some ((-2)))
else (p32 ((16 + (4 * a1)) + a2) fun x2 =>
(pald S 3 116 x2).bind fun v8 =>
some (v8))))
set_option maxHeartbeats 4000000 in
theorem rf_X0_book {g : zGd} {M : Nat} {m0 : zMm} (hL : pLC g (zR m0) M) {m : zMm} (hm : pOk (bC M) m0 m) {pa1 : Int} {a1 : Int32} (ea1 : pa1 = a1.toInt) {pa2 : Int} {a2 : Int32} (ea2 : pa2 = a2.toInt) : pRf qI (p_X0_book (pI (bC M) m) pa1 pa2) (f_X0_book g m (some ((bC M).1 + 0)) a1 a2) := by
  subst ea1
  subst ea2
  unfold p_X0_book f_X0_book
  refine r_ite (pc_eq rfl (eI (-1 : Int32) (by decide))) ?_ ?_
  · refine r_gr (d := 1) hm (lc_o hL) (lc_f0 hL) ?_
    refine r_gr (d := 3) hm (ls_o (lc_s1 hL)) (ls_f1 (lc_s1 hL)) ?_
    refine r_ald (ls_k2 (lc_s1 hL)) (eI (15 : Int32) (by decide)) (fun _ => rfl) (fun v11 => ?_)
    exact r_some (qI_i rfl)
  · refine r_gr (d := 1) hm (lc_o hL) (lc_f0 hL) ?_
    refine r_gr (d := 3) hm (ls_o (lc_s1 hL)) (ls_f1 (lc_s1 hL)) ?_
    refine r_ald (ls_k2 (lc_s1 hL)) (eI (15 : Int32) (by decide)) (fun _ => rfl) (fun v3 => ?_)
    refine r_p32 (px_sub (px_v _) (px_n (1 : Int32) (by decide))) ?_
    refine r_bind (A := qI) (rf_X0_in rfl (eI (0 : Int32) (by decide)) rfl) ?_
    rintro pv4 v4 ev4
    change pv4 = v4.toInt at ev4; subst ev4
    refine r_ite (pc_eq rfl (eI (0 : Int32) (by decide))) ?_ ?_
    · exact r_some (qI_i (eI (-2 : Int32) (by decide)))
    · refine r_bind (A := qI) (rf_X0_in rfl (eI (0 : Int32) (by decide)) (eI (3 : Int32) (by decide))) ?_
      rintro pv5 v5 ev5
      change pv5 = v5.toInt at ev5; subst ev5
      refine r_ite (pc_eq rfl (eI (0 : Int32) (by decide))) ?_ ?_
      · exact r_some (qI_i (eI (-2 : Int32) (by decide)))
      · refine r_gr (d := 1) hm (lc_o hL) (lc_f0 hL) ?_
        refine r_gr (d := 3) hm (ls_o (lc_s1 hL)) (ls_f1 (lc_s1 hL)) ?_
        refine r_p32 (px_add (px_add (px_n (16 : Int32) (by decide)) (px_mul (px_n (4 : Int32) (by decide)) (px_v _))) (px_v _)) ?_
        refine r_ald (ls_k2 (lc_s1 hL)) rfl (fun _ => rfl) (fun v8 => ?_)
        exact r_some (qI_i rfl)
def pb_X0_foretold_39 (W : pW) (a1 : Int) : (Int × (Int × zP)) → Option (zP ⊕ (Int × (Int × zP))) := fun (v10, v11, S12) =>
if a1 ≤ v11 then (some (.inl S12))
else ((pald S12 145 116 0).bind fun v14 =>
if 9999 ≤ v14 then (some (.inl S12))
else ((p_X0_passes W S12 145 116).bind fun (v16, S17) =>
p32 (v10 + v16) fun v18 =>
p32 (v11 + 1) fun v19 =>
some (.inr (v18, v19, S17))))
set_option maxHeartbeats 4000000 in
theorem rb_X0_foretold_39 {g : zGd} {M : Nat} {m0 : zMm} (hL : pLC g (zR m0) M) {W : pW} (hW : pWok g (bC M) m0 W) {pa1 : Int} {a1 : Int32} (ea1 : pa1 = a1.toInt) : ∀ s t, (qP qI (qP qI (qM (bC M) m0))) s t → pRf (qS (qM (bC M) m0) (qP qI (qP qI (qM (bC M) m0)))) (pb_X0_foretold_39 W pa1 s) (b_X0_foretold_39 g (some ((bC M).1 + 0)) a1 t) := by
  subst ea1
  rintro ⟨pv10, pv11, S12⟩ ⟨v10, v11, m12⟩ ⟨ev10, ev11, ⟨em12, hm12⟩⟩
  change pv10 = v10.toInt at ev10; subst ev10
  change pv11 = v11.toInt at ev11; subst ev11
  change S12 = pI (bC M) m12 at em12; subst em12
  unfold pb_X0_foretold_39 b_X0_foretold_39
  try dsimp only
  refine r_ite (pc_le rfl rfl) ?_ ?_
  · exact r_some (qS_l (qM_i hm12))
  · refine r_gr (d := 145) hm12 (lc_o hL) (lc_f7 hL) ?_
    refine r_ald (lc_k145 hL) (eI (0 : Int32) (by decide)) (fun _ => rfl) (fun v14 => ?_)
    refine r_ite (pc_le (eI (9999 : Int32) (by decide)) rfl) ?_ ?_
    · exact r_some (qS_l (qM_i hm12))
    · refine r_gr (d := 145) hm12 (lc_o hL) (lc_f7 hL) ?_
      refine r_bind (A := (qP qI (qM (bC M) m0))) (r_rc (B := (bC M)) (c := 0) (lc_o hL) (rf_X0_passes hL hW hm12 (lc_k145 hL) (fun _ => wC (by omega)))) ?_
      rintro ⟨pv16, S17⟩ ⟨v16, m17⟩ ⟨ev16, ⟨em17, hm17⟩⟩
      change pv16 = v16.toInt at ev16; subst ev16
      change S17 = pI (bC M) m17 at em17; subst em17
      refine r_lt32 (px_add (px_v _) (px_v _)) (fun v18 => ?_)
      refine r_lt32 (px_add (px_v _) (px_n (1 : Int32) (by decide))) (fun v19 => ?_)
      exact r_some (qS_r (qP_i (qI_i rfl) (qP_i (qI_i rfl) (qM_i hm17))))
def p_X0_foretold (W : pW) (S : zP) (a1 : Int) (a2 : Int) : Option (Int × zP) :=
(p_X0_in a1 1 60).bind fun v1 =>
if v1 = 0 then (some (((-1), S)))
else ((p_X0_isKin S a2).bind fun v2 =>
if v2 = 0 then (some (((-1), S)))
else ((p_X1_copy S 3 116 145 116).bind fun S6 =>
(zLoop (pb_X0_foretold_39 W a1) zFuel (0, 0, S6)).bind fun S8 =>
p32 (8 + a2) fun x1 =>
(pald S8 145 116 x1).bind fun v21 =>
some ((v21, S8))))
set_option maxHeartbeats 4000000 in
theorem rf_X0_foretold {g : zGd} {M : Nat} {m0 : zMm} (hL : pLC g (zR m0) M) {W : pW} (hW : pWok g (bC M) m0 W) {m : zMm} (hm : pOk (bC M) m0 m) {pa1 : Int} {a1 : Int32} (ea1 : pa1 = a1.toInt) {pa2 : Int} {a2 : Int32} (ea2 : pa2 = a2.toInt) : pRf (qP qI (qM (bC M) m0)) (p_X0_foretold W (pI (bC M) m) pa1 pa2) (f_X0_foretold g m (some ((bC M).1 + 0)) a1 a2) := by
  subst ea1
  subst ea2
  unfold p_X0_foretold f_X0_foretold
  refine r_bind (A := qI) (rf_X0_in rfl (eI (1 : Int32) (by decide)) (eI (60 : Int32) (by decide))) ?_
  rintro pv1 v1 ev1
  change pv1 = v1.toInt at ev1; subst ev1
  refine r_ite (pc_eq rfl (eI (0 : Int32) (by decide))) ?_ ?_
  · exact r_some (qP_i (qI_i (eI (-1 : Int32) (by decide))) (qM_i hm))
  · refine r_bind (A := qI) (r_rc (B := (bC M)) (c := 0) (lc_o hL) (rf_X0_isKin hL hm rfl)) ?_
    rintro pv2 v2 ev2
    change pv2 = v2.toInt at ev2; subst ev2
    refine r_ite (pc_eq rfl (eI (0 : Int32) (by decide))) ?_ ?_
    · exact r_some (qP_i (qI_i (eI (-1 : Int32) (by decide))) (qM_i hm))
    · refine r_gr (d := 1) hm (lc_o hL) (lc_f0 hL) ?_
      refine r_gr (d := 3) hm (ls_o (lc_s1 hL)) (ls_f1 (lc_s1 hL)) ?_
      refine r_gr (d := 145) hm (lc_o hL) (lc_f7 hL) ?_
      refine r_bind (A := (qM (bC M) m0)) (rf_X1_copy hL hm (ls_k2 (lc_s1 hL)) (fun _ => wC (by omega)) (by decide) (lc_k145 hL) (fun _ => wC (by omega)) (by decide)) ?_
      rintro S6 m6 ⟨em6, hm6⟩
      change S6 = pI (bC M) m6 at em6; subst em6
      refine r_bind (A := (qM (bC M) m0)) (r_loop (rb_X0_foretold_39 hL hW rfl) zFuel _ _ (qP_i (qI_i (eI (0 : Int32) (by decide))) (qP_i (qI_i (eI (0 : Int32) (by decide))) (qM_i hm6)))) ?_
      rintro S8 m8 ⟨em8, hm8⟩
      change S8 = pI (bC M) m8 at em8; subst em8
      refine r_gr (d := 145) hm8 (lc_o hL) (lc_f7 hL) ?_
      refine r_p32 (px_add (px_n (8 : Int32) (by decide)) (px_v _)) ?_
      refine r_ald (lc_k145 hL) rfl (fun _ => rfl) (fun v21 => ?_)
      exact r_some (qP_i (qI_i rfl) (qM_i hm8))
def p_X0_spite (S : zP) (a1 : Int) (a2 : Int) (a3 : Int) : Option (Int × zP) :=
(p_X0_canSwap S a1 a2).bind fun v1 =>
if v1 = 0 then (some ((0, S)))
else ((p_X0_in a3 0 99).bind fun v2 =>
if v2 = 0 then (some ((0, S)))
else ((pidx 6 a1).bind fun q1 =>
(past S (9 + q1) 6 a2 a3).bind fun S6 =>
(pidx 6 a2).bind fun q2 =>
(past S6 (9 + q2) 6 a1 a3).bind fun S10 =>
some ((1, S10))))
set_option maxHeartbeats 4000000 in
theorem rf_X0_spite {g : zGd} {M : Nat} {m0 : zMm} (hL : pLC g (zR m0) M) {m : zMm} (hm : pOk (bC M) m0 m) {pa1 : Int} {a1 : Int32} (ea1 : pa1 = a1.toInt) {pa2 : Int} {a2 : Int32} (ea2 : pa2 = a2.toInt) {pa3 : Int} {a3 : Int32} (ea3 : pa3 = a3.toInt) : pRf (qP qI (qM (bC M) m0)) (p_X0_spite (pI (bC M) m) pa1 pa2 pa3) (f_X0_spite g m (some ((bC M).1 + 0)) a1 a2 a3) := by
  subst ea1
  subst ea2
  subst ea3
  unfold p_X0_spite f_X0_spite
  refine r_bind (A := qI) (r_rc (B := (bC M)) (c := 0) (lc_o hL) (rf_X0_canSwap hL hm rfl rfl)) ?_
  rintro pv1 v1 ev1
  change pv1 = v1.toInt at ev1; subst ev1
  refine r_ite (pc_eq rfl (eI (0 : Int32) (by decide))) ?_ ?_
  · exact r_some (qP_i (qI_i (eI (0 : Int32) (by decide))) (qM_i hm))
  · refine r_bind (A := qI) (rf_X0_in rfl (eI (0 : Int32) (by decide)) (eI (99 : Int32) (by decide))) ?_
    rintro pv2 v2 ev2
    change pv2 = v2.toInt at ev2; subst ev2
    refine r_ite (pc_eq rfl (eI (0 : Int32) (by decide))) ?_ ?_
    · exact r_some (qP_i (qI_i (eI (0 : Int32) (by decide))) (qM_i hm))
    · refine r_gr (d := 1) hm (lc_o hL) (lc_f0 hL) ?_
      refine r_gr (d := 8) hm (ls_o (lc_s1 hL)) (ls_f6 (lc_s1 hL)) ?_
      refine r_aldr (d := 9) hm (ls_k7 (lc_s1 hL)) rfl (ls_r7 (lc_s1 hL)) (fun q1 hq1 => ?_)
      refine r_ast hm ((ls_e7 (lc_s1 hL)) q1 hq1) hL.1 (wC (by have := hq1; omega)) rfl rfl (fun _ => rfl) (fun m6 hm6 => ?_)
      refine r_gr (d := 1) hm6 (lc_o hL) (lc_f0 hL) ?_
      refine r_gr (d := 8) hm6 (ls_o (lc_s1 hL)) (ls_f6 (lc_s1 hL)) ?_
      refine r_aldr (d := 9) hm6 (ls_k7 (lc_s1 hL)) rfl (ls_r7 (lc_s1 hL)) (fun q2 hq2 => ?_)
      refine r_ast hm6 ((ls_e7 (lc_s1 hL)) q2 hq2) hL.1 (wC (by have := hq2; omega)) rfl rfl (fun _ => rfl) (fun m10 hm10 => ?_)
      exact r_some (qP_i (qI_i (eI (1 : Int32) (by decide))) (qM_i hm10))
def pb_X0_spiteAround_5 (S : zP) (ca1 na1 : Nat) (a2 : Int) : (Int × Int) → Option (Int ⊕ (Int × Int)) := fun (v4, v5) =>
(p_X0_many S).bind fun v6 =>
if v6 ≤ v5 then (some (.inl v4))
else (p32 (a2 + v5) fun x1 =>
(pald S ca1 na1 x1).bind fun v9 =>
(pidx 6 v9).bind fun q2 =>
(p_X0_many S).bind fun v11 =>
p32 (v5 + 1) fun x3 =>
(pmod x3 v11).bind fun v12 =>
p32 (a2 + v12) fun x4 =>
(pald S ca1 na1 x4).bind fun v13 =>
(pald S (9 + q2) 6 v13).bind fun v14 =>
p32 (v4 + v14) fun v15 =>
p32 (v5 + 1) fun v16 =>
some (.inr (v15, v16)))
set_option maxHeartbeats 4000000 in
theorem rb_X0_spiteAround_5 {g : zGd} {M : Nat} {m0 : zMm} (hL : pLC g (zR m0) M) {m : zMm} (hm : pOk (bC M) m0 m) {ca1 na1 : Nat} (ka1 : zK g ((bC M).1 + ca1) = (101, na1)) (za1 : ∀ i, (bC M).2.2 ca1 i) {pa2 : Int} {a2 : Int32} (ea2 : pa2 = a2.toInt) : ∀ s t, (qP qI qI) s t → pRf (qS qI (qP qI qI)) (pb_X0_spiteAround_5 (pI (bC M) m) ca1 na1 pa2 s) (b_X0_spiteAround_5 g m (some ((bC M).1 + 0)) (some ((bC M).1 + ca1)) a2 t) := by
  subst ea2
  rintro ⟨pv4, pv5⟩ ⟨v4, v5⟩ ⟨ev4, ev5⟩
  change pv4 = v4.toInt at ev4; subst ev4
  change pv5 = v5.toInt at ev5; subst ev5
  unfold pb_X0_spiteAround_5 b_X0_spiteAround_5
  try dsimp only
  refine r_bind (A := qI) (r_rc (B := (bC M)) (c := 0) (lc_o hL) (rf_X0_many hL hm)) ?_
  rintro pv6 v6 ev6
  change pv6 = v6.toInt at ev6; subst ev6
  refine r_ite (pc_le rfl rfl) ?_ ?_
  · exact r_some (qS_l (qI_i rfl))
  · refine r_gr (d := 1) hm (lc_o hL) (lc_f0 hL) ?_
    refine r_gr (d := 8) hm (ls_o (lc_s1 hL)) (ls_f6 (lc_s1 hL)) ?_
    refine r_p32 (px_add (px_v _) (px_v _)) ?_
    refine r_ald ka1 rfl (fun _ => rfl) (fun v9 => ?_)
    refine r_aldr (d := 9) hm (ls_k7 (lc_s1 hL)) rfl (ls_r7 (lc_s1 hL)) (fun q2 hq2 => ?_)
    refine r_bind (A := qI) (r_rc (B := (bC M)) (c := 0) (lc_o hL) (rf_X0_many hL hm)) ?_
    rintro pv11 v11 ev11
    change pv11 = v11.toInt at ev11; subst ev11
    refine r_p32 (px_add (px_v _) (px_n (1 : Int32) (by decide))) ?_
    refine r_mod rfl rfl (fun v12 => ?_)
    refine r_p32 (px_add (px_v _) (px_v _)) ?_
    refine r_ald ka1 rfl (fun _ => rfl) (fun v13 => ?_)
    refine r_ald ((ls_e7 (lc_s1 hL)) q2 hq2) rfl (fun _ => rfl) (fun v14 => ?_)
    refine r_lt32 (px_add (px_v _) (px_v _)) (fun v15 => ?_)
    refine r_lt32 (px_add (px_v _) (px_n (1 : Int32) (by decide))) (fun v16 => ?_)
    exact r_some (qS_r (qP_i (qI_i rfl) (qI_i rfl)))
def p_X0_spiteAround (S : zP) (ca1 na1 : Nat) (a2 : Int) : Option Int :=
(zLoop (pb_X0_spiteAround_5 S ca1 na1 a2) zFuel (0, 0)).bind fun v2 =>
(p_X0_many S).bind fun v17 =>
if v17 = 2 then (zlt (pdv v2 2) fun x1 =>
some (x1))
else (some (v2))
set_option maxHeartbeats 4000000 in
theorem rf_X0_spiteAround {g : zGd} {M : Nat} {m0 : zMm} (hL : pLC g (zR m0) M) {m : zMm} (hm : pOk (bC M) m0 m) {ca1 na1 : Nat} (ka1 : zK g ((bC M).1 + ca1) = (101, na1)) (za1 : ∀ i, (bC M).2.2 ca1 i) {pa2 : Int} {a2 : Int32} (ea2 : pa2 = a2.toInt) : pRf qI (p_X0_spiteAround (pI (bC M) m) ca1 na1 pa2) (f_X0_spiteAround g m (some ((bC M).1 + 0)) (some ((bC M).1 + ca1)) a2) := by
  subst ea2
  unfold p_X0_spiteAround f_X0_spiteAround
  refine r_bind (A := qI) (r_loop (rb_X0_spiteAround_5 hL hm ka1 za1 rfl) zFuel _ _ (qP_i (qI_i (eI (0 : Int32) (by decide))) (qI_i (eI (0 : Int32) (by decide))))) ?_
  rintro pv2 v2 ev2
  change pv2 = v2.toInt at ev2; subst ev2
  refine r_bind (A := qI) (r_rc (B := (bC M)) (c := 0) (lc_o hL) (rf_X0_many hL hm)) ?_
  rintro pv17 v17 ev17
  change pv17 = v17.toInt at ev17; subst ev17
  refine r_ite (pc_eq rfl (eI (2 : Int32) (by decide))) ?_ ?_
  · refine r_x32 (pe_dv (by decide) rfl (eI (2 : Int32) (by decide))) ?_
    exact r_some (qI_i rfl)
  · exact r_some (qI_i rfl)
def pb_X0_seatsFrom_84 (rec : zP → Int → Int → Option zP) (a1 : Int) (a2 : Int) : (Int × zP) → Option (zP ⊕ (Int × zP)) := fun (v4, S5) =>
(p_X0_many S5).bind fun v6 =>
if v6 ≤ v4 then (some (.inl S5))
else ((p_X0_has a2 v4).bind fun v7 =>
if v7 = 0 then (p32 (v4 + 1) fun v12 =>
some (.inr (v12, S5)))
else ((past S5 146 6 a1 v4).bind fun S9 =>
p32 (a1 + 1) fun x1 =>
zlt (pshl 1 v4) fun x2 =>
zlt (pxor x2 (-1)) fun x3 =>
zlt (pand a2 x3) fun x4 =>
(rec S9 x1 x4).bind fun S10 =>
p32 (v4 + 1) fun v11 =>
some (.inr (v11, S10))))
set_option maxHeartbeats 4000000 in
theorem rb_X0_seatsFrom_84 {g : zGd} {M : Nat} {m0 : zMm} (hL : pLC g (zR m0) M) {rec : zP → Int → Int → Option zP} {rec' : zGd → zMm → Option Nat → Int32 → Int32 → Option (zMm)} (hrec : ∀ {m : zMm} (_ : pOk (bC M) m0 m) {pa1 : Int} {a1 : Int32} (_ : pa1 = a1.toInt) {pa2 : Int} {a2 : Int32} (_ : pa2 = a2.toInt), pRf (qM (bC M) m0) (rec (pI (bC M) m) pa1 pa2) (rec' g m (some ((bC M).1 + 0)) a1 a2)) {pa1 : Int} {a1 : Int32} (ea1 : pa1 = a1.toInt) {pa2 : Int} {a2 : Int32} (ea2 : pa2 = a2.toInt) : ∀ s t, (qP qI (qM (bC M) m0)) s t → pRf (qS (qM (bC M) m0) (qP qI (qM (bC M) m0))) (pb_X0_seatsFrom_84 rec pa1 pa2 s) (b_X0_seatsFrom_84 g rec' (some ((bC M).1 + 0)) a1 a2 t) := by
  subst ea1
  subst ea2
  rintro ⟨pv4, S5⟩ ⟨v4, m5⟩ ⟨ev4, ⟨em5, hm5⟩⟩
  change pv4 = v4.toInt at ev4; subst ev4
  change S5 = pI (bC M) m5 at em5; subst em5
  unfold pb_X0_seatsFrom_84 b_X0_seatsFrom_84
  try dsimp only
  refine r_bind (A := qI) (r_rc (B := (bC M)) (c := 0) (lc_o hL) (rf_X0_many hL hm5)) ?_
  rintro pv6 v6 ev6
  change pv6 = v6.toInt at ev6; subst ev6
  refine r_ite (pc_le rfl rfl) ?_ ?_
  · exact r_some (qS_l (qM_i hm5))
  · refine r_bind (A := qI) (rf_X0_has rfl rfl) ?_
    rintro pv7 v7 ev7
    change pv7 = v7.toInt at ev7; subst ev7
    refine r_ite (pc_eq rfl (eI (0 : Int32) (by decide))) ?_ ?_
    · refine r_lt32 (px_add (px_v _) (px_n (1 : Int32) (by decide))) (fun v12 => ?_)
      exact r_some (qS_r (qP_i (qI_i rfl) (qM_i hm5)))
    · refine r_gr (d := 146) hm5 (lc_o hL) (lc_f8 hL) ?_
      refine r_ast hm5 (lc_k146 hL) hL.1 (wC (by omega)) rfl rfl (fun _ => rfl) (fun m9 hm9 => ?_)
      refine r_p32 (px_add (px_v _) (px_n (1 : Int32) (by decide))) ?_
      refine r_x32 (pe_shl (eI (1 : Int32) (by decide)) rfl) ?_
      refine r_x32 (pe_xor rfl (eI (-1 : Int32) (by decide))) ?_
      refine r_x32 (pe_and rfl rfl) ?_
      refine r_bind (A := (qM (bC M) m0)) (r_rc (B := (bC M)) (c := 0) (lc_o hL) (hrec hm9 rfl rfl)) ?_
      rintro S10 m10 ⟨em10, hm10⟩
      change S10 = pI (bC M) m10 at em10; subst em10
      refine r_lt32 (px_add (px_v _) (px_n (1 : Int32) (by decide))) (fun v11 => ?_)
      exact r_some (qS_r (qP_i (qI_i rfl) (qM_i hm10)))
def qp_X0_seatsFrom (rec : zP → Int → Int → Option zP) (S : zP) (a1 : Int) (a2 : Int) : Option zP :=
if a2 = 0 then ((p_X0_spiteAround S 146 6 0).bind fun v14 =>
zlt (S 0 11) fun v15 =>
(p_J7_max v15 v14).bind fun v16 =>
zlt (pup S 0 11 v16) fun S17 =>
zlt (S17 0 10) fun v18 =>
if v14 ≤ v18 then (zlt (S17 0 10) fun v19 =>
((if v19 ≤ v14 then (some (S17))
else ((p_X1_copy S17 146 6 147 6).bind fun S24 =>
some (S24)) : Option zP)).bind fun S21 =>
zlt (S21 0 10) fun v25 =>
((if v25 ≤ v14 then (zlt (S21 0 12) fun v28 =>
p32 (v28 + 1) fun x1 =>
some (x1))
else (some (1)) : Option Int)).bind fun v27 =>
zlt (pup S21 0 12 v27) fun S29 =>
zlt (pup S29 0 10 v14) fun S30 =>
some (S30))
else (some (S17)))
else ((zLoop (pb_X0_seatsFrom_84 rec a1 a2) zFuel (0, S)).bind fun S2 =>
some (S2))
set_option maxHeartbeats 4000000 in
theorem rq_X0_seatsFrom {g : zGd} {M : Nat} {m0 : zMm} (hL : pLC g (zR m0) M) {rec : zP → Int → Int → Option zP} {rec' : zGd → zMm → Option Nat → Int32 → Int32 → Option (zMm)} (hrec : ∀ {m : zMm} (_ : pOk (bC M) m0 m) {pa1 : Int} {a1 : Int32} (_ : pa1 = a1.toInt) {pa2 : Int} {a2 : Int32} (_ : pa2 = a2.toInt), pRf (qM (bC M) m0) (rec (pI (bC M) m) pa1 pa2) (rec' g m (some ((bC M).1 + 0)) a1 a2)) {m : zMm} (hm : pOk (bC M) m0 m) {pa1 : Int} {a1 : Int32} (ea1 : pa1 = a1.toInt) {pa2 : Int} {a2 : Int32} (ea2 : pa2 = a2.toInt) : pRf (qM (bC M) m0) (qp_X0_seatsFrom rec (pI (bC M) m) pa1 pa2) (q_X0_seatsFrom rec' g m (some ((bC M).1 + 0)) a1 a2) := by
  subst ea1
  subst ea2
  unfold qp_X0_seatsFrom q_X0_seatsFrom
  refine r_ite (pc_eq rfl (eI (0 : Int32) (by decide))) ?_ ?_
  · refine r_gr (d := 146) hm (lc_o hL) (lc_f8 hL) ?_
    refine r_bind (A := qI) (r_rc (B := (bC M)) (c := 0) (lc_o hL) (rf_X0_spiteAround hL hm (lc_k146 hL) (fun _ => wC (by omega)) (eI (0 : Int32) (by decide)))) ?_
    rintro pv14 v14 ev14
    change pv14 = v14.toInt at ev14; subst ev14
    refine r_gi (B := (bC M)) (c := 0) (i := 11) (lc_o hL) rfl rfl (fun v15 => ?_)
    refine r_bind (A := qI) (rf_J7_max rfl rfl) ?_
    rintro pv16 v16 ev16
    change pv16 = v16.toInt at ev16; subst ev16
    refine r_pi (B := (bC M)) (c := 0) (i := 11) hm (lc_o hL) hL.1 (wC (by omega)) rfl rfl rfl (fun m17 hm17 => ?_)
    refine r_gi (B := (bC M)) (c := 0) (i := 10) (lc_o hL) rfl rfl (fun v18 => ?_)
    refine r_ite (pc_le rfl rfl) ?_ ?_
    · refine r_gi (B := (bC M)) (c := 0) (i := 10) (lc_o hL) rfl rfl (fun v19 => ?_)
      refine r_bind (A := (qM (bC M) m0)) ?_ ?_
      · refine r_ite (pc_le rfl rfl) ?_ ?_
        · exact r_some (qM_i hm17)
        · refine r_gr (d := 146) hm17 (lc_o hL) (lc_f8 hL) ?_
          refine r_gr (d := 147) hm17 (lc_o hL) (lc_f9 hL) ?_
          refine r_bind (A := (qM (bC M) m0)) (rf_X1_copy hL hm17 (lc_k146 hL) (fun _ => wC (by omega)) (by decide) (lc_k147 hL) (fun _ => wC (by omega)) (by decide)) ?_
          rintro S24 m24 ⟨em24, hm24⟩
          change S24 = pI (bC M) m24 at em24; subst em24
          exact r_some (qM_i hm24)
      rintro S21 m21 ⟨em21, hm21⟩
      change S21 = pI (bC M) m21 at em21; subst em21
      refine r_gi (B := (bC M)) (c := 0) (i := 10) (lc_o hL) rfl rfl (fun v25 => ?_)
      refine r_bind (A := qI) ?_ ?_
      · refine r_ite (pc_le rfl rfl) ?_ ?_
        · refine r_gi (B := (bC M)) (c := 0) (i := 12) (lc_o hL) rfl rfl (fun v28 => ?_)
          refine r_p32 (px_add (px_v _) (px_n (1 : Int32) (by decide))) ?_
          exact r_some (qI_i rfl)
        · exact r_some (qI_i (eI (1 : Int32) (by decide)))
      rintro pv27 v27 ev27
      change pv27 = v27.toInt at ev27; subst ev27
      refine r_pi (B := (bC M)) (c := 0) (i := 12) hm21 (lc_o hL) hL.1 (wC (by omega)) rfl rfl rfl (fun m29 hm29 => ?_)
      refine r_pi (B := (bC M)) (c := 0) (i := 10) hm29 (lc_o hL) hL.1 (wC (by omega)) rfl rfl rfl (fun m30 hm30 => ?_)
      exact r_some (qM_i hm30)
    · exact r_some (qM_i hm17)
  · refine r_bind (A := (qM (bC M) m0)) (r_loop (rb_X0_seatsFrom_84 hL hrec rfl rfl) zFuel _ _ (qP_i (qI_i (eI (0 : Int32) (by decide))) (qM_i hm))) ?_
    rintro S2 m2 ⟨em2, hm2⟩
    change S2 = pI (bC M) m2 at em2; subst em2
    exact r_some (qM_i hm2)
def rp_seats : Nat → zP → Int → Int → Option zP
  | 0 => fun _ _ _ => none
  | d + 1 => qp_X0_seatsFrom (rp_seats d)
set_option maxHeartbeats 4000000 in
theorem rr_seats {g : zGd} {M : Nat} {m0 : zMm} (hL : pLC g (zR m0) M) : ∀ (d : Nat) {m : zMm} (_ : pOk (bC M) m0 m) {x y : Int} {a b : Int32} (_ : x = a.toInt) (_ : y = b.toInt), pRf (qM (bC M) m0) (rp_seats d (pI (bC M) m) x y) (r_seats d g m (some ((bC M).1 + 0)) a b)
  | 0, _, _, _, _, _, _, _, _ => r_none
  | d + 1, _, hm, _, _, _, _, h1, h2 => rq_X0_seatsFrom hL (fun hm => fun h1 => fun h2 => rr_seats hL d hm h1 h2) hm h1 h2
def p_X0_seatsFrom (S : zP) (a1 a2 : Int) : Option zP := rp_seats 20 S a1 a2
set_option maxHeartbeats 4000000 in
theorem rf_X0_seatsFrom {g : zGd} {M : Nat} {m0 : zMm} (hL : pLC g (zR m0) M) {m : zMm} (hm : pOk (bC M) m0 m) {x y : Int} {a b : Int32} (h1 : x = a.toInt) (h2 : y = b.toInt) : pRf (qM (bC M) m0) (p_X0_seatsFrom (pI (bC M) m) x y) (f_X0_seatsFrom g m (some ((bC M).1 + 0)) a b) := rr_seats hL 20 hm h1 h2
def p_X0_laysSeats (S : zP) : Option zP :=
zlt (pup S 0 10 99999) fun S1 =>
zlt (pup S1 0 11 (-1)) fun S2 =>
zlt (pup S2 0 12 0) fun S3 =>
(past S3 146 6 0 0).bind fun S5 =>
(p_X0_many S5).bind fun v6 =>
p32 ((pshl 1 v6) - 1) fun x1 =>
zlt (pand x1 (-2)) fun x2 =>
(p_X0_seatsFrom S5 1 x2).bind fun S7 =>
some (S7)
set_option maxHeartbeats 4000000 in
theorem rf_X0_laysSeats {g : zGd} {M : Nat} {m0 : zMm} (hL : pLC g (zR m0) M) {m : zMm} (hm : pOk (bC M) m0 m) : pRf (qM (bC M) m0) (p_X0_laysSeats (pI (bC M) m)) (f_X0_laysSeats g m (some ((bC M).1 + 0))) := by
  unfold p_X0_laysSeats f_X0_laysSeats
  refine r_pi (B := (bC M)) (c := 0) (i := 10) hm (lc_o hL) hL.1 (wC (by omega)) rfl rfl (eI (99999 : Int32) (by decide)) (fun m1 hm1 => ?_)
  refine r_pi (B := (bC M)) (c := 0) (i := 11) hm1 (lc_o hL) hL.1 (wC (by omega)) rfl rfl (eI (-1 : Int32) (by decide)) (fun m2 hm2 => ?_)
  refine r_pi (B := (bC M)) (c := 0) (i := 12) hm2 (lc_o hL) hL.1 (wC (by omega)) rfl rfl (eI (0 : Int32) (by decide)) (fun m3 hm3 => ?_)
  refine r_gr (d := 146) hm3 (lc_o hL) (lc_f8 hL) ?_
  refine r_ast hm3 (lc_k146 hL) hL.1 (wC (by omega)) (eI (0 : Int32) (by decide)) (eI (0 : Int32) (by decide)) (fun _ => rfl) (fun m5 hm5 => ?_)
  refine r_bind (A := qI) (r_rc (B := (bC M)) (c := 0) (lc_o hL) (rf_X0_many hL hm5)) ?_
  rintro pv6 v6 ev6
  change pv6 = v6.toInt at ev6; subst ev6
  refine r_p32 (px_sub (px_e (pe_shl (eI (1 : Int32) (by decide)) rfl)) (px_n (1 : Int32) (by decide))) ?_
  refine r_x32 (pe_and rfl (eI (-2 : Int32) (by decide))) ?_
  refine r_bind (A := (qM (bC M) m0)) (r_rc (B := (bC M)) (c := 0) (lc_o hL) (rf_X0_seatsFrom hL hm5 (eI (1 : Int32) (by decide)) rfl)) ?_
  rintro S7 m7 ⟨em7, hm7⟩
  change S7 = pI (bC M) m7 at em7; subst em7
  exact r_some (qM_i hm7)
def p_X0_round (S : zP) (a1 : Int) : Option (Int × zP) :=
(p_X0_laysSeats S).bind fun S1 =>
if a1 = 0 then (zlt (S1 0 11) fun v2 =>
some ((v2, S1)))
else (zlt (S1 0 10) fun v3 =>
some ((v3, S1)))
set_option maxHeartbeats 4000000 in
theorem rf_X0_round {g : zGd} {M : Nat} {m0 : zMm} (hL : pLC g (zR m0) M) {m : zMm} (hm : pOk (bC M) m0 m) {pa1 : Int} {a1 : Int32} (ea1 : pa1 = a1.toInt) : pRf (qP qI (qM (bC M) m0)) (p_X0_round (pI (bC M) m) pa1) (f_X0_round g m (some ((bC M).1 + 0)) a1) := by
  subst ea1
  unfold p_X0_round f_X0_round
  refine r_bind (A := (qM (bC M) m0)) (r_rc (B := (bC M)) (c := 0) (lc_o hL) (rf_X0_laysSeats hL hm)) ?_
  rintro S1 m1 ⟨em1, hm1⟩
  change S1 = pI (bC M) m1 at em1; subst em1
  refine r_ite (pc_eq rfl (eI (0 : Int32) (by decide))) ?_ ?_
  · refine r_gi (B := (bC M)) (c := 0) (i := 11) (lc_o hL) rfl rfl (fun v2 => ?_)
    exact r_some (qP_i (qI_i rfl) (qM_i hm1))
  · refine r_gi (B := (bC M)) (c := 0) (i := 10) (lc_o hL) rfl rfl (fun v3 => ?_)
    exact r_some (qP_i (qI_i rfl) (qM_i hm1))
def p_X0_seating (S : zP) (a1 : Int) : Option (Int × zP) :=
(p_X0_isKin S a1).bind fun v1 =>
if v1 = 0 then (some (((-1), S)))
else ((p_X0_laysSeats S).bind fun S2 =>
(pald S2 147 6 a1).bind fun v4 =>
some ((v4, S2)))
set_option maxHeartbeats 4000000 in
theorem rf_X0_seating {g : zGd} {M : Nat} {m0 : zMm} (hL : pLC g (zR m0) M) {m : zMm} (hm : pOk (bC M) m0 m) {pa1 : Int} {a1 : Int32} (ea1 : pa1 = a1.toInt) : pRf (qP qI (qM (bC M) m0)) (p_X0_seating (pI (bC M) m) pa1) (f_X0_seating g m (some ((bC M).1 + 0)) a1) := by
  subst ea1
  unfold p_X0_seating f_X0_seating
  refine r_bind (A := qI) (r_rc (B := (bC M)) (c := 0) (lc_o hL) (rf_X0_isKin hL hm rfl)) ?_
  rintro pv1 v1 ev1
  change pv1 = v1.toInt at ev1; subst ev1
  refine r_ite (pc_eq rfl (eI (0 : Int32) (by decide))) ?_ ?_
  · exact r_some (qP_i (qI_i (eI (-1 : Int32) (by decide))) (qM_i hm))
  · refine r_bind (A := (qM (bC M) m0)) (r_rc (B := (bC M)) (c := 0) (lc_o hL) (rf_X0_laysSeats hL hm)) ?_
    rintro S2 m2 ⟨em2, hm2⟩
    change S2 = pI (bC M) m2 at em2; subst em2
    refine r_gr (d := 147) hm2 (lc_o hL) (lc_f9 hL) ?_
    refine r_ald (lc_k147 hL) rfl (fun _ => rfl) (fun v4 => ?_)
    exact r_some (qP_i (qI_i rfl) (qM_i hm2))
def p_X0_seatings (S : zP) : Option (Int × zP) :=
(p_X0_laysSeats S).bind fun S1 =>
zlt (S1 0 12) fun v2 =>
some ((v2, S1))
set_option maxHeartbeats 4000000 in
theorem rf_X0_seatings {g : zGd} {M : Nat} {m0 : zMm} (hL : pLC g (zR m0) M) {m : zMm} (hm : pOk (bC M) m0 m) : pRf (qP qI (qM (bC M) m0)) (p_X0_seatings (pI (bC M) m)) (f_X0_seatings g m (some ((bC M).1 + 0))) := by
  unfold p_X0_seatings f_X0_seatings
  refine r_bind (A := (qM (bC M) m0)) (r_rc (B := (bC M)) (c := 0) (lc_o hL) (rf_X0_laysSeats hL hm)) ?_
  rintro S1 m1 ⟨em1, hm1⟩
  change S1 = pI (bC M) m1 at em1; subst em1
  refine r_gi (B := (bC M)) (c := 0) (i := 12) (lc_o hL) rfl rfl (fun v2 => ?_)
  exact r_some (qP_i (qI_i rfl) (qM_i hm1))
def p_X0_spiteNow (S : zP) : Option Int :=
(p_X0_spiteAround S 3 116 2).bind fun v3 =>
some (v3)
set_option maxHeartbeats 4000000 in
theorem rf_X0_spiteNow {g : zGd} {M : Nat} {m0 : zMm} (hL : pLC g (zR m0) M) {m : zMm} (hm : pOk (bC M) m0 m) : pRf qI (p_X0_spiteNow (pI (bC M) m)) (f_X0_spiteNow g m (some ((bC M).1 + 0))) := by
  unfold p_X0_spiteNow f_X0_spiteNow
  refine r_gr (d := 1) hm (lc_o hL) (lc_f0 hL) ?_
  refine r_gr (d := 3) hm (ls_o (lc_s1 hL)) (ls_f1 (lc_s1 hL)) ?_
  refine r_bind (A := qI) (r_rc (B := (bC M)) (c := 0) (lc_o hL) (rf_X0_spiteAround hL hm (ls_k2 (lc_s1 hL)) (fun _ => wC (by omega)) (eI (2 : Int32) (by decide)))) ?_
  rintro pv3 v3 ev3
  change pv3 = v3.toInt at ev3; subst ev3
  exact r_some (qI_i rfl)
def p_X0_spiteBy (S : zP) (a1 : Int) (a2 : Int) : Option (Int × zP) :=
(p_X1_copy S 3 116 145 116).bind fun S4 =>
(p_X0_seatOf S4 3 116 a1).bind fun v8 =>
(p_X0_seatOf S4 3 116 a2).bind fun v11 =>
(p_X0_swaps S4 145 116 v8 v11).bind fun S12 =>
(p_X0_spiteAround S12 145 116 2).bind fun v14 =>
some ((v14, S12))
set_option maxHeartbeats 4000000 in
theorem rf_X0_spiteBy {g : zGd} {M : Nat} {m0 : zMm} (hL : pLC g (zR m0) M) {m : zMm} (hm : pOk (bC M) m0 m) {pa1 : Int} {a1 : Int32} (ea1 : pa1 = a1.toInt) {pa2 : Int} {a2 : Int32} (ea2 : pa2 = a2.toInt) : pRf (qP qI (qM (bC M) m0)) (p_X0_spiteBy (pI (bC M) m) pa1 pa2) (f_X0_spiteBy g m (some ((bC M).1 + 0)) a1 a2) := by
  subst ea1
  subst ea2
  unfold p_X0_spiteBy f_X0_spiteBy
  refine r_gr (d := 1) hm (lc_o hL) (lc_f0 hL) ?_
  refine r_gr (d := 3) hm (ls_o (lc_s1 hL)) (ls_f1 (lc_s1 hL)) ?_
  refine r_gr (d := 145) hm (lc_o hL) (lc_f7 hL) ?_
  refine r_bind (A := (qM (bC M) m0)) (rf_X1_copy hL hm (ls_k2 (lc_s1 hL)) (fun _ => wC (by omega)) (by decide) (lc_k145 hL) (fun _ => wC (by omega)) (by decide)) ?_
  rintro S4 m4 ⟨em4, hm4⟩
  change S4 = pI (bC M) m4 at em4; subst em4
  refine r_gr (d := 145) hm4 (lc_o hL) (lc_f7 hL) ?_
  refine r_gr (d := 1) hm4 (lc_o hL) (lc_f0 hL) ?_
  refine r_gr (d := 3) hm4 (ls_o (lc_s1 hL)) (ls_f1 (lc_s1 hL)) ?_
  refine r_bind (A := qI) (r_rc (B := (bC M)) (c := 0) (lc_o hL) (rf_X0_seatOf hL hm4 (ls_k2 (lc_s1 hL)) (fun _ => wC (by omega)) rfl)) ?_
  rintro pv8 v8 ev8
  change pv8 = v8.toInt at ev8; subst ev8
  refine r_gr (d := 1) hm4 (lc_o hL) (lc_f0 hL) ?_
  refine r_gr (d := 3) hm4 (ls_o (lc_s1 hL)) (ls_f1 (lc_s1 hL)) ?_
  refine r_bind (A := qI) (r_rc (B := (bC M)) (c := 0) (lc_o hL) (rf_X0_seatOf hL hm4 (ls_k2 (lc_s1 hL)) (fun _ => wC (by omega)) rfl)) ?_
  rintro pv11 v11 ev11
  change pv11 = v11.toInt at ev11; subst ev11
  refine r_bind (A := (qM (bC M) m0)) (rf_X0_swaps hL hm4 (lc_k145 hL) (fun _ => wC (by omega)) rfl rfl) ?_
  rintro S12 m12 ⟨em12, hm12⟩
  change S12 = pI (bC M) m12 at em12; subst em12
  refine r_gr (d := 145) hm12 (lc_o hL) (lc_f7 hL) ?_
  refine r_bind (A := qI) (r_rc (B := (bC M)) (c := 0) (lc_o hL) (rf_X0_spiteAround hL hm12 (lc_k145 hL) (fun _ => wC (by omega)) (eI (2 : Int32) (by decide)))) ?_
  rintro pv14 v14 ev14
  change pv14 = v14.toInt at ev14; subst ev14
  exact r_some (qP_i (qI_i rfl) (qM_i hm12))
def pb_X0_mend_28 (v11 : Int) : (Int × (Int × (Int × (Int × zP)))) → Option ((Int × (Int × (Int × zP))) ⊕ (Int × (Int × (Int × (Int × zP))))) := fun (v21, v22, v23, v24, S25) =>
(p_X0_many S25).bind fun v26 =>
if v26 ≤ v24 then (some (.inl (v21, v22, v23, S25)))
else ((p_X0_spiteBy S25 v11 v24).bind fun (v27, S28) =>
if v27 < v21 then ((p_X0_spiteBy S28 v11 v24).bind fun (v29, S30) =>
p32 (v24 + 1) fun v31 =>
some (.inr (v29, v11, v24, v31, S30)))
else (p32 (v24 + 1) fun v32 =>
some (.inr (v21, v22, v23, v32, S28))))
set_option maxHeartbeats 4000000 in
theorem rb_X0_mend_28 {g : zGd} {M : Nat} {m0 : zMm} (hL : pLC g (zR m0) M) {pv11 : Int} {v11 : Int32} (ev11 : pv11 = v11.toInt) : ∀ s t, (qP qI (qP qI (qP qI (qP qI (qM (bC M) m0))))) s t → pRf (qS (qP qI (qP qI (qP qI (qM (bC M) m0)))) (qP qI (qP qI (qP qI (qP qI (qM (bC M) m0)))))) (pb_X0_mend_28 pv11 s) (b_X0_mend_28 g (some ((bC M).1 + 0)) v11 t) := by
  subst ev11
  rintro ⟨pv21, pv22, pv23, pv24, S25⟩ ⟨v21, v22, v23, v24, m25⟩ ⟨ev21, ev22, ev23, ev24, ⟨em25, hm25⟩⟩
  change pv21 = v21.toInt at ev21; subst ev21
  change pv22 = v22.toInt at ev22; subst ev22
  change pv23 = v23.toInt at ev23; subst ev23
  change pv24 = v24.toInt at ev24; subst ev24
  change S25 = pI (bC M) m25 at em25; subst em25
  unfold pb_X0_mend_28 b_X0_mend_28
  try dsimp only
  refine r_bind (A := qI) (r_rc (B := (bC M)) (c := 0) (lc_o hL) (rf_X0_many hL hm25)) ?_
  rintro pv26 v26 ev26
  change pv26 = v26.toInt at ev26; subst ev26
  refine r_ite (pc_le rfl rfl) ?_ ?_
  · exact r_some (qS_l (qP_i (qI_i rfl) (qP_i (qI_i rfl) (qP_i (qI_i rfl) (qM_i hm25)))))
  · refine r_bind (A := (qP qI (qM (bC M) m0))) (r_rc (B := (bC M)) (c := 0) (lc_o hL) (rf_X0_spiteBy hL hm25 rfl rfl)) ?_
    rintro ⟨pv27, S28⟩ ⟨v27, m28⟩ ⟨ev27, ⟨em28, hm28⟩⟩
    change pv27 = v27.toInt at ev27; subst ev27
    change S28 = pI (bC M) m28 at em28; subst em28
    refine r_ite (pc_lt rfl rfl) ?_ ?_
    · refine r_bind (A := (qP qI (qM (bC M) m0))) (r_rc (B := (bC M)) (c := 0) (lc_o hL) (rf_X0_spiteBy hL hm28 rfl rfl)) ?_
      rintro ⟨pv29, S30⟩ ⟨v29, m30⟩ ⟨ev29, ⟨em30, hm30⟩⟩
      change pv29 = v29.toInt at ev29; subst ev29
      change S30 = pI (bC M) m30 at em30; subst em30
      refine r_lt32 (px_add (px_v _) (px_n (1 : Int32) (by decide))) (fun v31 => ?_)
      exact r_some (qS_r (qP_i (qI_i rfl) (qP_i (qI_i rfl) (qP_i (qI_i rfl) (qP_i (qI_i rfl) (qM_i hm30))))))
    · refine r_lt32 (px_add (px_v _) (px_n (1 : Int32) (by decide))) (fun v32 => ?_)
      exact r_some (qS_r (qP_i (qI_i rfl) (qP_i (qI_i rfl) (qP_i (qI_i rfl) (qP_i (qI_i rfl) (qM_i hm28))))))
def pb_X0_mend_13  : (Int × (Int × (Int × (Int × zP)))) → Option ((Int × (Int × (Int × zP))) ⊕ (Int × (Int × (Int × (Int × zP))))) := fun (v8, v9, v10, v11, S12) =>
(p_X0_many S12).bind fun v13 =>
if v13 ≤ v11 then (some (.inl (v8, v9, v10, S12)))
else (p32 (v11 + 1) fun v14 =>
(zLoop (pb_X0_mend_28 v11) zFuel (v8, v9, v10, v14, S12)).bind fun (v16, v17, v18, S19) =>
p32 (v11 + 1) fun v33 =>
some (.inr (v16, v17, v18, v33, S19)))
set_option maxHeartbeats 4000000 in
theorem rb_X0_mend_13 {g : zGd} {M : Nat} {m0 : zMm} (hL : pLC g (zR m0) M)  : ∀ s t, (qP qI (qP qI (qP qI (qP qI (qM (bC M) m0))))) s t → pRf (qS (qP qI (qP qI (qP qI (qM (bC M) m0)))) (qP qI (qP qI (qP qI (qP qI (qM (bC M) m0)))))) (pb_X0_mend_13 s) (b_X0_mend_13 g (some ((bC M).1 + 0)) t) := by
  rintro ⟨pv8, pv9, pv10, pv11, S12⟩ ⟨v8, v9, v10, v11, m12⟩ ⟨ev8, ev9, ev10, ev11, ⟨em12, hm12⟩⟩
  change pv8 = v8.toInt at ev8; subst ev8
  change pv9 = v9.toInt at ev9; subst ev9
  change pv10 = v10.toInt at ev10; subst ev10
  change pv11 = v11.toInt at ev11; subst ev11
  change S12 = pI (bC M) m12 at em12; subst em12
  unfold pb_X0_mend_13 b_X0_mend_13
  try dsimp only
  refine r_bind (A := qI) (r_rc (B := (bC M)) (c := 0) (lc_o hL) (rf_X0_many hL hm12)) ?_
  rintro pv13 v13 ev13
  change pv13 = v13.toInt at ev13; subst ev13
  refine r_ite (pc_le rfl rfl) ?_ ?_
  · exact r_some (qS_l (qP_i (qI_i rfl) (qP_i (qI_i rfl) (qP_i (qI_i rfl) (qM_i hm12)))))
  · refine r_lt32 (px_add (px_v _) (px_n (1 : Int32) (by decide))) (fun v14 => ?_)
    refine r_bind (A := (qP qI (qP qI (qP qI (qM (bC M) m0))))) (r_loop (rb_X0_mend_28 hL rfl) zFuel _ _ (qP_i (qI_i rfl) (qP_i (qI_i rfl) (qP_i (qI_i rfl) (qP_i (qI_i rfl) (qM_i hm12)))))) ?_
    rintro ⟨pv16, pv17, pv18, S19⟩ ⟨v16, v17, v18, m19⟩ ⟨ev16, ev17, ev18, ⟨em19, hm19⟩⟩
    change pv16 = v16.toInt at ev16; subst ev16
    change pv17 = v17.toInt at ev17; subst ev17
    change pv18 = v18.toInt at ev18; subst ev18
    change S19 = pI (bC M) m19 at em19; subst em19
    refine r_lt32 (px_add (px_v _) (px_n (1 : Int32) (by decide))) (fun v33 => ?_)
    exact r_some (qS_r (qP_i (qI_i rfl) (qP_i (qI_i rfl) (qP_i (qI_i rfl) (qP_i (qI_i rfl) (qM_i hm19))))))
def p_X0_mend (S : zP) (a1 : Int) : Option (Int × zP) :=
(p_X0_spiteNow S).bind fun v1 =>
(zLoop pb_X0_mend_13 zFuel (v1, (-1), (-1), 0, S)).bind fun (v3, v4, v5, S6) =>
if v4 = (-1) then (some (((-1), S6)))
else (if a1 = 0 then (some ((v4, S6)))
else (if a1 = 1 then (some ((v5, S6)))
else (if a1 = 2 then (some ((v3, S6)))
else (some (((-1), S6))))))
set_option maxHeartbeats 4000000 in
theorem rf_X0_mend {g : zGd} {M : Nat} {m0 : zMm} (hL : pLC g (zR m0) M) {m : zMm} (hm : pOk (bC M) m0 m) {pa1 : Int} {a1 : Int32} (ea1 : pa1 = a1.toInt) : pRf (qP qI (qM (bC M) m0)) (p_X0_mend (pI (bC M) m) pa1) (f_X0_mend g m (some ((bC M).1 + 0)) a1) := by
  subst ea1
  unfold p_X0_mend f_X0_mend
  refine r_bind (A := qI) (r_rc (B := (bC M)) (c := 0) (lc_o hL) (rf_X0_spiteNow hL hm)) ?_
  rintro pv1 v1 ev1
  change pv1 = v1.toInt at ev1; subst ev1
  refine r_bind (A := (qP qI (qP qI (qP qI (qM (bC M) m0))))) (r_loop (rb_X0_mend_13 hL) zFuel _ _ (qP_i (qI_i rfl) (qP_i (qI_i (eI (-1 : Int32) (by decide))) (qP_i (qI_i (eI (-1 : Int32) (by decide))) (qP_i (qI_i (eI (0 : Int32) (by decide))) (qM_i hm)))))) ?_
  rintro ⟨pv3, pv4, pv5, S6⟩ ⟨v3, v4, v5, m6⟩ ⟨ev3, ev4, ev5, ⟨em6, hm6⟩⟩
  change pv3 = v3.toInt at ev3; subst ev3
  change pv4 = v4.toInt at ev4; subst ev4
  change pv5 = v5.toInt at ev5; subst ev5
  change S6 = pI (bC M) m6 at em6; subst em6
  refine r_ite (pc_eq rfl (eI (-1 : Int32) (by decide))) ?_ ?_
  · exact r_some (qP_i (qI_i (eI (-1 : Int32) (by decide))) (qM_i hm6))
  · refine r_ite (pc_eq rfl (eI (0 : Int32) (by decide))) ?_ ?_
    · exact r_some (qP_i (qI_i rfl) (qM_i hm6))
    · refine r_ite (pc_eq rfl (eI (1 : Int32) (by decide))) ?_ ?_
      · exact r_some (qP_i (qI_i rfl) (qM_i hm6))
      · refine r_ite (pc_eq rfl (eI (2 : Int32) (by decide))) ?_ ?_
        · exact r_some (qP_i (qI_i rfl) (qM_i hm6))
        · exact r_some (qP_i (qI_i (eI (-1 : Int32) (by decide))) (qM_i hm6))
def p_X0_hedge (S : zP) (a1 : Int) (a2 : Int) : Option (Int × zP) :=
(p_X0_in a1 0 35).bind fun v1 =>
if v1 = 0 then (some ((0, S)))
else ((p_X0_in a2 0 3).bind fun v2 =>
if v2 = 0 then (some ((0, S)))
else ((past S 5 36 a1 a2).bind fun S5 =>
some ((1, S5))))
set_option maxHeartbeats 4000000 in
theorem rf_X0_hedge {g : zGd} {M : Nat} {m0 : zMm} (hL : pLC g (zR m0) M) {m : zMm} (hm : pOk (bC M) m0 m) {pa1 : Int} {a1 : Int32} (ea1 : pa1 = a1.toInt) {pa2 : Int} {a2 : Int32} (ea2 : pa2 = a2.toInt) : pRf (qP qI (qM (bC M) m0)) (p_X0_hedge (pI (bC M) m) pa1 pa2) (f_X0_hedge g m (some ((bC M).1 + 0)) a1 a2) := by
  subst ea1
  subst ea2
  unfold p_X0_hedge f_X0_hedge
  refine r_bind (A := qI) (rf_X0_in rfl (eI (0 : Int32) (by decide)) (eI (35 : Int32) (by decide))) ?_
  rintro pv1 v1 ev1
  change pv1 = v1.toInt at ev1; subst ev1
  refine r_ite (pc_eq rfl (eI (0 : Int32) (by decide))) ?_ ?_
  · exact r_some (qP_i (qI_i (eI (0 : Int32) (by decide))) (qM_i hm))
  · refine r_bind (A := qI) (rf_X0_in rfl (eI (0 : Int32) (by decide)) (eI (3 : Int32) (by decide))) ?_
    rintro pv2 v2 ev2
    change pv2 = v2.toInt at ev2; subst ev2
    refine r_ite (pc_eq rfl (eI (0 : Int32) (by decide))) ?_ ?_
    · exact r_some (qP_i (qI_i (eI (0 : Int32) (by decide))) (qM_i hm))
    · refine r_gr (d := 1) hm (lc_o hL) (lc_f0 hL) ?_
      refine r_gr (d := 5) hm (ls_o (lc_s1 hL)) (ls_f3 (lc_s1 hL)) ?_
      refine r_ast hm (ls_k4 (lc_s1 hL)) hL.1 (wC (by omega)) rfl rfl (fun _ => rfl) (fun m5 hm5 => ?_)
      exact r_some (qP_i (qI_i (eI (1 : Int32) (by decide))) (qM_i hm5))
def p_X0_leavesBy (a0 : Int) (a1 : Int) : Option Int :=
if a1 = 0 then (if 6 ≤ a0 then (some (0))
else (some (1)))
else (if a1 = 1 then (zlt (prm a0 6) fun x1 =>
if x1 = 5 then (some (1))
else (some (0)))
else (if a1 = 2 then (if a0 < 30 then (some (0))
else (some (1)))
else (zlt (prm a0 6) fun x2 =>
if x2 = 0 then (some (1))
else (some (0)))))
set_option maxHeartbeats 4000000 in
theorem rf_X0_leavesBy {pa0 : Int} {a0 : Int32} (ea0 : pa0 = a0.toInt) {pa1 : Int} {a1 : Int32} (ea1 : pa1 = a1.toInt) : pRf qI (p_X0_leavesBy pa0 pa1) (f_X0_leavesBy a0 a1) := by
  subst ea0
  subst ea1
  unfold p_X0_leavesBy f_X0_leavesBy
  refine r_ite (pc_eq rfl (eI (0 : Int32) (by decide))) ?_ ?_
  · refine r_ite (pc_le (eI (6 : Int32) (by decide)) rfl) ?_ ?_
    · exact r_some (qI_i (eI (0 : Int32) (by decide)))
    · exact r_some (qI_i (eI (1 : Int32) (by decide)))
  · refine r_ite (pc_eq rfl (eI (1 : Int32) (by decide))) ?_ ?_
    · refine r_x32 (pe_rm (by decide) rfl (eI (6 : Int32) (by decide))) ?_
      refine r_ite (pc_eq rfl (eI (5 : Int32) (by decide))) ?_ ?_
      · exact r_some (qI_i (eI (1 : Int32) (by decide)))
      · exact r_some (qI_i (eI (0 : Int32) (by decide)))
    · refine r_ite (pc_eq rfl (eI (2 : Int32) (by decide))) ?_ ?_
      · refine r_ite (pc_lt rfl (eI (30 : Int32) (by decide))) ?_ ?_
        · exact r_some (qI_i (eI (0 : Int32) (by decide)))
        · exact r_some (qI_i (eI (1 : Int32) (by decide)))
      · refine r_x32 (pe_rm (by decide) rfl (eI (6 : Int32) (by decide))) ?_
        refine r_ite (pc_eq rfl (eI (0 : Int32) (by decide))) ?_ ?_
        · exact r_some (qI_i (eI (1 : Int32) (by decide)))
        · exact r_some (qI_i (eI (0 : Int32) (by decide)))
def p_X0_nextCell (a0 : Int) (a1 : Int) : Option Int :=
if a1 = 0 then (p32 (a0 + (-6)) fun x1 =>
some (x1))
else (if a1 = 1 then (p32 (a0 + 1) fun x2 =>
some (x2))
else (if a1 = 2 then (p32 (a0 + 6) fun x3 =>
some (x3))
else (p32 (a0 + (-1)) fun x4 =>
some (x4))))
set_option maxHeartbeats 4000000 in
theorem rf_X0_nextCell {pa0 : Int} {a0 : Int32} (ea0 : pa0 = a0.toInt) {pa1 : Int} {a1 : Int32} (ea1 : pa1 = a1.toInt) : pRf qI (p_X0_nextCell pa0 pa1) (f_X0_nextCell a0 a1) := by
  subst ea0
  subst ea1
  unfold p_X0_nextCell f_X0_nextCell
  refine r_ite (pc_eq rfl (eI (0 : Int32) (by decide))) ?_ ?_
  · refine r_p32 (px_add (px_v _) (px_n (-6 : Int32) (by decide))) ?_
    exact r_some (qI_i rfl)
  · refine r_ite (pc_eq rfl (eI (1 : Int32) (by decide))) ?_ ?_
    · refine r_p32 (px_add (px_v _) (px_n (1 : Int32) (by decide))) ?_
      exact r_some (qI_i rfl)
    · refine r_ite (pc_eq rfl (eI (2 : Int32) (by decide))) ?_ ?_
      · refine r_p32 (px_add (px_v _) (px_n (6 : Int32) (by decide))) ?_
        exact r_some (qI_i rfl)
      · refine r_p32 (px_add (px_v _) (px_n (-1 : Int32) (by decide))) ?_
        exact r_some (qI_i rfl)
def pb_X0_flies_20  : zP → Option (((Int × zP) ⊕ zP) ⊕ zP) := fun S8 =>
zlt (S8 0 14) fun v9 =>
zlt (S8 0 16) fun v10 =>
(p_X0_leavesBy v9 v10).bind fun v11 =>
if v11 = 0 then (zlt (S8 0 14) fun v12 =>
zlt (S8 0 16) fun v13 =>
(p_X0_nextCell v12 v13).bind fun v14 =>
zlt (pup S8 0 14 v14) fun S15 =>
zlt (S15 0 13) fun v16 =>
p32 (v16 + 1) fun x1 =>
zlt (pup S15 0 13 x1) fun S17 =>
zlt (S17 0 14) fun v20 =>
(pald S17 5 36 v20).bind fun v21 =>
if v21 = 3 then (some (.inl (.inl (1, S17))))
else (zlt (S17 0 13) fun v22 =>
if v22 ≤ 144 then (zlt (S17 0 15) fun v23 =>
((if v21 ≤ 0 then (some (0))
else (some (1)) : Option Int)).bind fun v25 =>
p32 (v23 + v25) fun x2 =>
zlt (pup S17 0 15 x2) fun S26 =>
if v21 = 1 then (zlt (S26 0 16) fun v31 =>
zlt (pxor v31 1) fun x3 =>
zlt (pup S26 0 16 x3) fun S32 =>
some (.inr S32))
else (if v21 = 2 then (zlt (S26 0 16) fun v29 =>
p32 (3 - v29) fun x4 =>
zlt (pup S26 0 16 x4) fun S30 =>
some (.inr S30))
else (zlt (S26 0 16) fun v27 =>
zlt (pup S26 0 16 v27) fun S28 =>
some (.inr S28))))
else (some (.inl (.inl (0, S17))))))
else (some (.inl (.inr S8)))
set_option maxHeartbeats 4000000 in
theorem rb_X0_flies_20 {g : zGd} {M : Nat} {m0 : zMm} (hL : pLC g (zR m0) M)  : ∀ s t, (qM (bC M) m0) s t → pRf (qS (qS (qP qI (qM (bC M) m0)) (qM (bC M) m0)) (qM (bC M) m0)) (pb_X0_flies_20 s) (b_X0_flies_20 g (some ((bC M).1 + 0)) t) := by
  rintro S8 m8 ⟨em8, hm8⟩
  change S8 = pI (bC M) m8 at em8; subst em8
  unfold pb_X0_flies_20 b_X0_flies_20
  try dsimp only
  refine r_gi (B := (bC M)) (c := 0) (i := 14) (lc_o hL) rfl rfl (fun v9 => ?_)
  refine r_gi (B := (bC M)) (c := 0) (i := 16) (lc_o hL) rfl rfl (fun v10 => ?_)
  refine r_bind (A := qI) (rf_X0_leavesBy rfl rfl) ?_
  rintro pv11 v11 ev11
  change pv11 = v11.toInt at ev11; subst ev11
  refine r_ite (pc_eq rfl (eI (0 : Int32) (by decide))) ?_ ?_
  · refine r_gi (B := (bC M)) (c := 0) (i := 14) (lc_o hL) rfl rfl (fun v12 => ?_)
    refine r_gi (B := (bC M)) (c := 0) (i := 16) (lc_o hL) rfl rfl (fun v13 => ?_)
    refine r_bind (A := qI) (rf_X0_nextCell rfl rfl) ?_
    rintro pv14 v14 ev14
    change pv14 = v14.toInt at ev14; subst ev14
    refine r_pi (B := (bC M)) (c := 0) (i := 14) hm8 (lc_o hL) hL.1 (wC (by omega)) rfl rfl rfl (fun m15 hm15 => ?_)
    refine r_gi (B := (bC M)) (c := 0) (i := 13) (lc_o hL) rfl rfl (fun v16 => ?_)
    refine r_p32 (px_add (px_v _) (px_n (1 : Int32) (by decide))) ?_
    refine r_pi (B := (bC M)) (c := 0) (i := 13) hm15 (lc_o hL) hL.1 (wC (by omega)) rfl rfl rfl (fun m17 hm17 => ?_)
    refine r_gr (d := 1) hm17 (lc_o hL) (lc_f0 hL) ?_
    refine r_gr (d := 5) hm17 (ls_o (lc_s1 hL)) (ls_f3 (lc_s1 hL)) ?_
    refine r_gi (B := (bC M)) (c := 0) (i := 14) (lc_o hL) rfl rfl (fun v20 => ?_)
    refine r_ald (ls_k4 (lc_s1 hL)) rfl (fun _ => rfl) (fun v21 => ?_)
    refine r_ite (pc_eq rfl (eI (3 : Int32) (by decide))) ?_ ?_
    · exact r_some (qS_l (qS_l (qP_i (qI_i (eI (1 : Int32) (by decide))) (qM_i hm17))))
    · refine r_gi (B := (bC M)) (c := 0) (i := 13) (lc_o hL) rfl rfl (fun v22 => ?_)
      refine r_ite (pc_le rfl (eI (144 : Int32) (by decide))) ?_ ?_
      · refine r_gi (B := (bC M)) (c := 0) (i := 15) (lc_o hL) rfl rfl (fun v23 => ?_)
        refine r_bind (A := qI) ?_ ?_
        · refine r_ite (pc_le rfl (eI (0 : Int32) (by decide))) ?_ ?_
          · exact r_some (qI_i (eI (0 : Int32) (by decide)))
          · exact r_some (qI_i (eI (1 : Int32) (by decide)))
        rintro pv25 v25 ev25
        change pv25 = v25.toInt at ev25; subst ev25
        refine r_p32 (px_add (px_v _) (px_v _)) ?_
        refine r_pi (B := (bC M)) (c := 0) (i := 15) hm17 (lc_o hL) hL.1 (wC (by omega)) rfl rfl rfl (fun m26 hm26 => ?_)
        refine r_ite (pc_eq rfl (eI (1 : Int32) (by decide))) ?_ ?_
        · refine r_gi (B := (bC M)) (c := 0) (i := 16) (lc_o hL) rfl rfl (fun v31 => ?_)
          refine r_x32 (pe_xor rfl (eI (1 : Int32) (by decide))) ?_
          refine r_pi (B := (bC M)) (c := 0) (i := 16) hm26 (lc_o hL) hL.1 (wC (by omega)) rfl rfl rfl (fun m32 hm32 => ?_)
          exact r_some (qS_r (qM_i hm32))
        · refine r_ite (pc_eq rfl (eI (2 : Int32) (by decide))) ?_ ?_
          · refine r_gi (B := (bC M)) (c := 0) (i := 16) (lc_o hL) rfl rfl (fun v29 => ?_)
            refine r_p32 (px_sub (px_n (3 : Int32) (by decide)) (px_v _)) ?_
            refine r_pi (B := (bC M)) (c := 0) (i := 16) hm26 (lc_o hL) hL.1 (wC (by omega)) rfl rfl rfl (fun m30 hm30 => ?_)
            exact r_some (qS_r (qM_i hm30))
          · refine r_gi (B := (bC M)) (c := 0) (i := 16) (lc_o hL) rfl rfl (fun v27 => ?_)
            refine r_pi (B := (bC M)) (c := 0) (i := 16) hm26 (lc_o hL) hL.1 (wC (by omega)) rfl rfl rfl (fun m28 hm28 => ?_)
            exact r_some (qS_r (qM_i hm28))
      · exact r_some (qS_l (qS_l (qP_i (qI_i (eI (0 : Int32) (by decide))) (qM_i hm17))))
  · exact r_some (qS_l (qS_r (qM_i hm8)))
def p_X0_flies (S : zP) (a1 : Int) (a2 : Int) : Option (Int × zP) :=
zlt (pup S 0 13 0) fun S1 =>
zlt (pup S1 0 14 a1) fun S2 =>
zlt (pup S2 0 15 0) fun S3 =>
zlt (pup S3 0 16 a2) fun S4 =>
zEx (σ := zP) (zLoop pb_X0_flies_20 zFuel S4) fun S6 =>
some ((1, S6))
set_option maxHeartbeats 4000000 in
theorem rf_X0_flies {g : zGd} {M : Nat} {m0 : zMm} (hL : pLC g (zR m0) M) {m : zMm} (hm : pOk (bC M) m0 m) {pa1 : Int} {a1 : Int32} (ea1 : pa1 = a1.toInt) {pa2 : Int} {a2 : Int32} (ea2 : pa2 = a2.toInt) : pRf (qP qI (qM (bC M) m0)) (p_X0_flies (pI (bC M) m) pa1 pa2) (f_X0_flies g m (some ((bC M).1 + 0)) a1 a2) := by
  subst ea1
  subst ea2
  unfold p_X0_flies f_X0_flies
  refine r_pi (B := (bC M)) (c := 0) (i := 13) hm (lc_o hL) hL.1 (wC (by omega)) rfl rfl (eI (0 : Int32) (by decide)) (fun m1 hm1 => ?_)
  refine r_pi (B := (bC M)) (c := 0) (i := 14) hm1 (lc_o hL) hL.1 (wC (by omega)) rfl rfl rfl (fun m2 hm2 => ?_)
  refine r_pi (B := (bC M)) (c := 0) (i := 15) hm2 (lc_o hL) hL.1 (wC (by omega)) rfl rfl (eI (0 : Int32) (by decide)) (fun m3 hm3 => ?_)
  refine r_pi (B := (bC M)) (c := 0) (i := 16) hm3 (lc_o hL) hL.1 (wC (by omega)) rfl rfl rfl (fun m4 hm4 => ?_)
  refine r_ex (Q := (qP qI (qM (bC M) m0))) (R := (qM (bC M) m0)) ?_ ?_
  · exact (r_loop (rb_X0_flies_20 hL) zFuel _ _ (qM_i hm4))
  rintro S6 m6 ⟨em6, hm6⟩
  change S6 = pI (bC M) m6 at em6; subst em6
  exact r_some (qP_i (qI_i (eI (1 : Int32) (by decide))) (qM_i hm6))
def p_X0_isFlight (a0 : Int) (a1 : Int) : Option Int :=
(p_X0_in a0 0 35).bind fun v1 =>
if v1 = 0 then (some (0))
else ((p_X0_in a1 0 3).bind fun v2 =>
if v2 = 0 then (some (0))
else (some (1)))
set_option maxHeartbeats 4000000 in
theorem rf_X0_isFlight {pa0 : Int} {a0 : Int32} (ea0 : pa0 = a0.toInt) {pa1 : Int} {a1 : Int32} (ea1 : pa1 = a1.toInt) : pRf qI (p_X0_isFlight pa0 pa1) (f_X0_isFlight a0 a1) := by
  subst ea0
  subst ea1
  unfold p_X0_isFlight f_X0_isFlight
  refine r_bind (A := qI) (rf_X0_in rfl (eI (0 : Int32) (by decide)) (eI (35 : Int32) (by decide))) ?_
  rintro pv1 v1 ev1
  change pv1 = v1.toInt at ev1; subst ev1
  refine r_ite (pc_eq rfl (eI (0 : Int32) (by decide))) ?_ ?_
  · exact r_some (qI_i (eI (0 : Int32) (by decide)))
  · refine r_bind (A := qI) (rf_X0_in rfl (eI (0 : Int32) (by decide)) (eI (3 : Int32) (by decide))) ?_
    rintro pv2 v2 ev2
    change pv2 = v2.toInt at ev2; subst ev2
    refine r_ite (pc_eq rfl (eI (0 : Int32) (by decide))) ?_ ?_
    · exact r_some (qI_i (eI (0 : Int32) (by decide)))
    · exact r_some (qI_i (eI (1 : Int32) (by decide)))
def p_X0_flight (S : zP) (a1 : Int) (a2 : Int) (a3 : Int) : Option (Int × zP) :=
(p_X0_isFlight a1 a2).bind fun v1 =>
if v1 = 0 then (some (((-1), S)))
else ((p_X0_flies S a1 a2).bind fun (v2, S3) =>
if v2 = 0 then (some (((-1), S3)))
else (if a3 = 0 then (zlt (S3 0 13) fun v7 =>
some ((v7, S3)))
else (if a3 = 1 then (zlt (S3 0 14) fun v6 =>
some ((v6, S3)))
else (if a3 = 2 then (zlt (S3 0 15) fun v5 =>
some ((v5, S3)))
else (if a3 = 3 then (zlt (S3 0 16) fun v4 =>
some ((v4, S3)))
else (some (((-1), S3))))))))
set_option maxHeartbeats 4000000 in
theorem rf_X0_flight {g : zGd} {M : Nat} {m0 : zMm} (hL : pLC g (zR m0) M) {m : zMm} (hm : pOk (bC M) m0 m) {pa1 : Int} {a1 : Int32} (ea1 : pa1 = a1.toInt) {pa2 : Int} {a2 : Int32} (ea2 : pa2 = a2.toInt) {pa3 : Int} {a3 : Int32} (ea3 : pa3 = a3.toInt) : pRf (qP qI (qM (bC M) m0)) (p_X0_flight (pI (bC M) m) pa1 pa2 pa3) (f_X0_flight g m (some ((bC M).1 + 0)) a1 a2 a3) := by
  subst ea1
  subst ea2
  subst ea3
  unfold p_X0_flight f_X0_flight
  refine r_bind (A := qI) (rf_X0_isFlight rfl rfl) ?_
  rintro pv1 v1 ev1
  change pv1 = v1.toInt at ev1; subst ev1
  refine r_ite (pc_eq rfl (eI (0 : Int32) (by decide))) ?_ ?_
  · exact r_some (qP_i (qI_i (eI (-1 : Int32) (by decide))) (qM_i hm))
  · refine r_bind (A := (qP qI (qM (bC M) m0))) (r_rc (B := (bC M)) (c := 0) (lc_o hL) (rf_X0_flies hL hm rfl rfl)) ?_
    rintro ⟨pv2, S3⟩ ⟨v2, m3⟩ ⟨ev2, ⟨em3, hm3⟩⟩
    change pv2 = v2.toInt at ev2; subst ev2
    change S3 = pI (bC M) m3 at em3; subst em3
    refine r_ite (pc_eq rfl (eI (0 : Int32) (by decide))) ?_ ?_
    · exact r_some (qP_i (qI_i (eI (-1 : Int32) (by decide))) (qM_i hm3))
    · refine r_ite (pc_eq rfl (eI (0 : Int32) (by decide))) ?_ ?_
      · refine r_gi (B := (bC M)) (c := 0) (i := 13) (lc_o hL) rfl rfl (fun v7 => ?_)
        exact r_some (qP_i (qI_i rfl) (qM_i hm3))
      · refine r_ite (pc_eq rfl (eI (1 : Int32) (by decide))) ?_ ?_
        · refine r_gi (B := (bC M)) (c := 0) (i := 14) (lc_o hL) rfl rfl (fun v6 => ?_)
          exact r_some (qP_i (qI_i rfl) (qM_i hm3))
        · refine r_ite (pc_eq rfl (eI (2 : Int32) (by decide))) ?_ ?_
          · refine r_gi (B := (bC M)) (c := 0) (i := 15) (lc_o hL) rfl rfl (fun v5 => ?_)
            exact r_some (qP_i (qI_i rfl) (qM_i hm3))
          · refine r_ite (pc_eq rfl (eI (3 : Int32) (by decide))) ?_ ?_
            · refine r_gi (B := (bC M)) (c := 0) (i := 16) (lc_o hL) rfl rfl (fun v4 => ?_)
              exact r_some (qP_i (qI_i rfl) (qM_i hm3))
            · exact r_some (qP_i (qI_i (eI (-1 : Int32) (by decide))) (qM_i hm3))
def pb_X0_comes_20 (a1 : Int) (a2 : Int) (v5 : Int) : (Int × zP) → Option (((((Int × zP) ⊕ zP) ⊕ (Int × zP)) ⊕ zP) ⊕ (Int × zP)) := fun (v10, S11) =>
if 36 ≤ v10 then (some (.inl (.inr S11)))
else (zlt (pxor v5 2) fun x1 =>
(p_X0_leavesBy v10 x1).bind fun v12 =>
if v12 = 0 then (p32 (v10 + 1) fun v13 =>
some (.inr (v13, S11)))
else ((p_X0_flies S11 v10 v5).bind fun (v14, S15) =>
if v14 = 0 then (p32 (v10 + 1) fun v16 =>
some (.inr (v16, S15)))
else (zlt (S15 0 14) fun v17 =>
if v17 = a1 then (zlt (S15 0 16) fun v19 =>
if v19 = a2 then (p32 ((36 * v5) + v10) fun x2 =>
some (.inl (.inl (.inl (.inl (x2, S15))))))
else (p32 (v10 + 1) fun v20 =>
some (.inr (v20, S15))))
else (p32 (v10 + 1) fun v18 =>
some (.inr (v18, S15))))))
set_option maxHeartbeats 4000000 in
theorem rb_X0_comes_20 {g : zGd} {M : Nat} {m0 : zMm} (hL : pLC g (zR m0) M) {pa1 : Int} {a1 : Int32} (ea1 : pa1 = a1.toInt) {pa2 : Int} {a2 : Int32} (ea2 : pa2 = a2.toInt) {pv5 : Int} {v5 : Int32} (ev5 : pv5 = v5.toInt) : ∀ s t, (qP qI (qM (bC M) m0)) s t → pRf (qS (qS (qS (qS (qP qI (qM (bC M) m0)) (qM (bC M) m0)) (qP qI (qM (bC M) m0))) (qM (bC M) m0)) (qP qI (qM (bC M) m0))) (pb_X0_comes_20 pa1 pa2 pv5 s) (b_X0_comes_20 g (some ((bC M).1 + 0)) a1 a2 v5 t) := by
  subst ea1
  subst ea2
  subst ev5
  rintro ⟨pv10, S11⟩ ⟨v10, m11⟩ ⟨ev10, ⟨em11, hm11⟩⟩
  change pv10 = v10.toInt at ev10; subst ev10
  change S11 = pI (bC M) m11 at em11; subst em11
  unfold pb_X0_comes_20 b_X0_comes_20
  try dsimp only
  refine r_ite (pc_le (eI (36 : Int32) (by decide)) rfl) ?_ ?_
  · exact r_some (qS_l (qS_r (qM_i hm11)))
  · refine r_x32 (pe_xor rfl (eI (2 : Int32) (by decide))) ?_
    refine r_bind (A := qI) (rf_X0_leavesBy rfl rfl) ?_
    rintro pv12 v12 ev12
    change pv12 = v12.toInt at ev12; subst ev12
    refine r_ite (pc_eq rfl (eI (0 : Int32) (by decide))) ?_ ?_
    · refine r_lt32 (px_add (px_v _) (px_n (1 : Int32) (by decide))) (fun v13 => ?_)
      exact r_some (qS_r (qP_i (qI_i rfl) (qM_i hm11)))
    · refine r_bind (A := (qP qI (qM (bC M) m0))) (r_rc (B := (bC M)) (c := 0) (lc_o hL) (rf_X0_flies hL hm11 rfl rfl)) ?_
      rintro ⟨pv14, S15⟩ ⟨v14, m15⟩ ⟨ev14, ⟨em15, hm15⟩⟩
      change pv14 = v14.toInt at ev14; subst ev14
      change S15 = pI (bC M) m15 at em15; subst em15
      refine r_ite (pc_eq rfl (eI (0 : Int32) (by decide))) ?_ ?_
      · refine r_lt32 (px_add (px_v _) (px_n (1 : Int32) (by decide))) (fun v16 => ?_)
        exact r_some (qS_r (qP_i (qI_i rfl) (qM_i hm15)))
      · refine r_gi (B := (bC M)) (c := 0) (i := 14) (lc_o hL) rfl rfl (fun v17 => ?_)
        refine r_ite (pc_eq rfl rfl) ?_ ?_
        · refine r_gi (B := (bC M)) (c := 0) (i := 16) (lc_o hL) rfl rfl (fun v19 => ?_)
          refine r_ite (pc_eq rfl rfl) ?_ ?_
          · refine r_p32 (px_add (px_mul (px_n (36 : Int32) (by decide)) (px_v _)) (px_v _)) ?_
            exact r_some (qS_l (qS_l (qS_l (qS_l (qP_i (qI_i rfl) (qM_i hm15))))))
          · refine r_lt32 (px_add (px_v _) (px_n (1 : Int32) (by decide))) (fun v20 => ?_)
            exact r_some (qS_r (qP_i (qI_i rfl) (qM_i hm15)))
        · refine r_lt32 (px_add (px_v _) (px_n (1 : Int32) (by decide))) (fun v18 => ?_)
          exact r_some (qS_r (qP_i (qI_i rfl) (qM_i hm15)))
def pb_X0_comes_12 (a1 : Int) (a2 : Int) : (Int × zP) → Option (((Int × zP) ⊕ zP) ⊕ (Int × zP)) := fun (v5, S6) =>
if 4 ≤ v5 then (some (.inl (.inr S6)))
else (zEx (σ := zP) (zLoop (pb_X0_comes_20 a1 a2 v5) zFuel (0, S6)) fun S8 =>
p32 (v5 + 1) fun v21 =>
some (.inr (v21, S8)))
set_option maxHeartbeats 4000000 in
theorem rb_X0_comes_12 {g : zGd} {M : Nat} {m0 : zMm} (hL : pLC g (zR m0) M) {pa1 : Int} {a1 : Int32} (ea1 : pa1 = a1.toInt) {pa2 : Int} {a2 : Int32} (ea2 : pa2 = a2.toInt) : ∀ s t, (qP qI (qM (bC M) m0)) s t → pRf (qS (qS (qP qI (qM (bC M) m0)) (qM (bC M) m0)) (qP qI (qM (bC M) m0))) (pb_X0_comes_12 pa1 pa2 s) (b_X0_comes_12 g (some ((bC M).1 + 0)) a1 a2 t) := by
  subst ea1
  subst ea2
  rintro ⟨pv5, S6⟩ ⟨v5, m6⟩ ⟨ev5, ⟨em6, hm6⟩⟩
  change pv5 = v5.toInt at ev5; subst ev5
  change S6 = pI (bC M) m6 at em6; subst em6
  unfold pb_X0_comes_12 b_X0_comes_12
  try dsimp only
  refine r_ite (pc_le (eI (4 : Int32) (by decide)) rfl) ?_ ?_
  · exact r_some (qS_l (qS_r (qM_i hm6)))
  · refine r_ex (Q := (qS (qS (qP qI (qM (bC M) m0)) (qM (bC M) m0)) (qP qI (qM (bC M) m0)))) (R := (qM (bC M) m0)) ?_ ?_
    · exact (r_loop (rb_X0_comes_20 hL rfl rfl rfl) zFuel _ _ (qP_i (qI_i (eI (0 : Int32) (by decide))) (qM_i hm6)))
    rintro S8 m8 ⟨em8, hm8⟩
    change S8 = pI (bC M) m8 at em8; subst em8
    refine r_lt32 (px_add (px_v _) (px_n (1 : Int32) (by decide))) (fun v21 => ?_)
    exact r_some (qS_r (qP_i (qI_i rfl) (qM_i hm8)))
def p_X0_comes (S : zP) (a1 : Int) (a2 : Int) : Option (Int × zP) :=
(p_X0_isFlight a1 a2).bind fun v1 =>
if v1 = 0 then (some (((-1), S)))
else (zEx (σ := zP) (zLoop (pb_X0_comes_12 a1 a2) zFuel (0, S)) fun S3 =>
some (((-1), S3)))
set_option maxHeartbeats 4000000 in
theorem rf_X0_comes {g : zGd} {M : Nat} {m0 : zMm} (hL : pLC g (zR m0) M) {m : zMm} (hm : pOk (bC M) m0 m) {pa1 : Int} {a1 : Int32} (ea1 : pa1 = a1.toInt) {pa2 : Int} {a2 : Int32} (ea2 : pa2 = a2.toInt) : pRf (qP qI (qM (bC M) m0)) (p_X0_comes (pI (bC M) m) pa1 pa2) (f_X0_comes g m (some ((bC M).1 + 0)) a1 a2) := by
  subst ea1
  subst ea2
  unfold p_X0_comes f_X0_comes
  refine r_bind (A := qI) (rf_X0_isFlight rfl rfl) ?_
  rintro pv1 v1 ev1
  change pv1 = v1.toInt at ev1; subst ev1
  refine r_ite (pc_eq rfl (eI (0 : Int32) (by decide))) ?_ ?_
  · exact r_some (qP_i (qI_i (eI (-1 : Int32) (by decide))) (qM_i hm))
  · refine r_ex (Q := (qP qI (qM (bC M) m0))) (R := (qM (bC M) m0)) ?_ ?_
    · exact (r_loop (rb_X0_comes_12 hL rfl rfl) zFuel _ _ (qP_i (qI_i (eI (0 : Int32) (by decide))) (qM_i hm)))
    rintro S3 m3 ⟨em3, hm3⟩
    change S3 = pI (bC M) m3 at em3; subst em3
    exact r_some (qP_i (qI_i (eI (-1 : Int32) (by decide))) (qM_i hm3))
def p_X0_isRow (a0 : Int) : Option Int :=
(p_X0_in a0 0 124).bind fun v1 =>
(pbo v1).bind fun z =>
some (z)
set_option maxHeartbeats 4000000 in
theorem rf_X0_isRow {pa0 : Int} {a0 : Int32} (ea0 : pa0 = a0.toInt) : pRf qI (p_X0_isRow pa0) (f_X0_isRow a0) := by
  subst ea0
  unfold p_X0_isRow f_X0_isRow
  refine r_bind (A := qI) (rf_X0_in rfl (eI (0 : Int32) (by decide)) (eI (124 : Int32) (by decide))) ?_
  rintro pv1 v1 ev1
  change pv1 = v1.toInt at ev1; subst ev1
  refine r_bo rfl (fun z => ?_)
  exact r_some (qI_i rfl)
def p_X1_adds (S : zP) (o : Nat) (ca1 na1 qa1 : Nat) (a2 : Int) (a3 : Int) (a4 : Int) : Option (Int × zP) :=
(pald S (o + 1) 7 a2).bind fun v2 =>
(pidx na1 v2).bind fun q1 =>
(past S (ca1 + 1 + q1) qa1 0 a3).bind fun S4 =>
(pald S4 (o + 1) 7 a2).bind fun v6 =>
(pidx na1 v6).bind fun q2 =>
(past S4 (ca1 + 1 + q2) qa1 1 a4).bind fun S8 =>
(pald S8 (o + 1) 7 a2).bind fun v10 =>
p32 (v10 + 1) fun x3 =>
(past S8 (o + 1) 7 a2 x3).bind fun S11 =>
(pald S11 (o + 1) 7 a2).bind fun v13 =>
some ((v13, S11))
set_option maxHeartbeats 4000000 in
theorem rf_X1_adds {g : zGd} {M : Nat} {m0 : zMm} (hL : pLC g (zR m0) M) {m : zMm} (hm : pOk (bC M) m0 m) {o : Nat} (hs : pLS g (zR m0) (bC M).1 o) (hz : o = 1) {ca1 na1 qa1 : Nat} (ka1 : zK g ((bC M).1 + ca1) = (106, na1)) (ra1 : ∀ q, q < na1 → zR m0 ((bC M).1 + ca1) q = some ((bC M).1 + (ca1 + 1 + q))) (ja1 : ∀ q, q < na1 → zK g ((bC M).1 + (ca1 + 1 + q)) = (101, qa1)) (za1 : ∀ q, q < na1 → ∀ i, (bC M).2.2 (ca1 + 1 + q) i) {pa2 : Int} {a2 : Int32} (ea2 : pa2 = a2.toInt) (hqa2 : pa2 ≠ 1) {pa3 : Int} {a3 : Int32} (ea3 : pa3 = a3.toInt) {pa4 : Int} {a4 : Int32} (ea4 : pa4 = a4.toInt) : pRf (qP qI (qM (bC M) m0)) (p_X1_adds (pI (bC M) m) o ca1 na1 qa1 pa2 pa3 pa4) (f_X1_adds g m (some ((bC M).1 + o)) (some ((bC M).1 + ca1)) a2 a3 a4) := by
  subst ea2
  subst ea3
  subst ea4
  unfold p_X1_adds f_X1_adds
  refine r_gr (d := (o + 1)) hm (ls_o hs) (ls_f0 hs) ?_
  refine r_ald (ls_k1 hs) rfl (fun _ => rfl) (fun v2 => ?_)
  refine r_aldr (d := ca1 + 1) hm ka1 rfl ra1 (fun q1 hq1 => ?_)
  refine r_ast hm (ja1 q1 hq1) hL.1 (za1 q1 hq1 _) (eI (0 : Int32) (by decide)) rfl (fun _ => rfl) (fun m4 hm4 => ?_)
  refine r_gr (d := (o + 1)) hm4 (ls_o hs) (ls_f0 hs) ?_
  refine r_ald (ls_k1 hs) rfl (fun _ => rfl) (fun v6 => ?_)
  refine r_aldr (d := ca1 + 1) hm4 ka1 rfl ra1 (fun q2 hq2 => ?_)
  refine r_ast hm4 (ja1 q2 hq2) hL.1 (za1 q2 hq2 _) (eI (1 : Int32) (by decide)) rfl (fun _ => rfl) (fun m8 hm8 => ?_)
  refine r_gr (d := (o + 1)) hm8 (ls_o hs) (ls_f0 hs) ?_
  refine r_ald (ls_k1 hs) rfl (fun _ => rfl) (fun v10 => ?_)
  refine r_p32 (px_add (px_v _) (px_n (1 : Int32) (by decide))) ?_
  refine r_ast hm8 (ls_k1 hs) hL.1 (wC (by omega)) rfl rfl (fun _ => rfl) (fun m11 hm11 => ?_)
  refine r_gr (d := (o + 1)) hm11 (ls_o hs) (ls_f0 hs) ?_
  refine r_ald (ls_k1 hs) rfl (fun _ => rfl) (fun v13 => ?_)
  exact r_some (qP_i (qI_i rfl) (qM_i hm11))
def p_X1_clears (S : zP) (o : Nat) (a1 : Int) : Option (Int × zP) :=
(past S (o + 1) 7 a1 0).bind fun S2 =>
some ((0, S2))
set_option maxHeartbeats 4000000 in
theorem rf_X1_clears {g : zGd} {M : Nat} {m0 : zMm} (hL : pLC g (zR m0) M) {m : zMm} (hm : pOk (bC M) m0 m) {o : Nat} (hs : pLS g (zR m0) (bC M).1 o) (hz : o = 1) {pa1 : Int} {a1 : Int32} (ea1 : pa1 = a1.toInt) (hqa1 : pa1 ≠ 1) : pRf (qP qI (qM (bC M) m0)) (p_X1_clears (pI (bC M) m) o pa1) (f_X1_clears g m (some ((bC M).1 + o)) a1) := by
  subst ea1
  unfold p_X1_clears f_X1_clears
  refine r_gr (d := (o + 1)) hm (ls_o hs) (ls_f0 hs) ?_
  refine r_ast hm (ls_k1 hs) hL.1 (wC (by omega)) rfl (eI (0 : Int32) (by decide)) (fun _ => rfl) (fun m2 hm2 => ?_)
  exact r_some (qP_i (qI_i (eI (0 : Int32) (by decide))) (qM_i hm2))
def p_X0_guess (S : zP) (a1 : Int) (a2 : Int) (a3 : Int) : Option (Int × zP) :=
if a1 = (-1) then ((p_X1_clears S 1 4).bind fun (v13, S14) =>
some ((v13, S14)))
else ((p_X0_isRow a1).bind fun v1 =>
if v1 = 0 then (some (((-2), S)))
else ((p_X0_in a2 0 3).bind fun v2 =>
if v2 = 0 then (some (((-2), S)))
else (p32 (3 - a2) fun x1 =>
(p_X0_in a3 0 x1).bind fun v3 =>
if v3 = 0 then (some (((-2), S)))
else ((pald S 2 7 4).bind fun v6 =>
if v6 = 6 then (some (((-2), S)))
else (p32 ((10 * a2) + a3) fun x2 =>
(p_X1_adds S 1 15 6 2 4 a1 x2).bind fun (v10, S11) =>
some ((v10, S11)))))))
set_option maxHeartbeats 4000000 in
theorem rf_X0_guess {g : zGd} {M : Nat} {m0 : zMm} (hL : pLC g (zR m0) M) {m : zMm} (hm : pOk (bC M) m0 m) {pa1 : Int} {a1 : Int32} (ea1 : pa1 = a1.toInt) {pa2 : Int} {a2 : Int32} (ea2 : pa2 = a2.toInt) {pa3 : Int} {a3 : Int32} (ea3 : pa3 = a3.toInt) : pRf (qP qI (qM (bC M) m0)) (p_X0_guess (pI (bC M) m) pa1 pa2 pa3) (f_X0_guess g m (some ((bC M).1 + 0)) a1 a2 a3) := by
  subst ea1
  subst ea2
  subst ea3
  unfold p_X0_guess f_X0_guess
  refine r_ite (pc_eq rfl (eI (-1 : Int32) (by decide))) ?_ ?_
  · refine r_gr (d := 1) hm (lc_o hL) (lc_f0 hL) ?_
    refine r_bind (A := (qP qI (qM (bC M) m0))) (r_rc (B := (bC M)) (c := 1) (ls_o (lc_s1 hL)) (rf_X1_clears hL hm (lc_s1 hL) rfl (eI (4 : Int32) (by decide)) (by decide))) ?_
    rintro ⟨pv13, S14⟩ ⟨v13, m14⟩ ⟨ev13, ⟨em14, hm14⟩⟩
    change pv13 = v13.toInt at ev13; subst ev13
    change S14 = pI (bC M) m14 at em14; subst em14
    exact r_some (qP_i (qI_i rfl) (qM_i hm14))
  · refine r_bind (A := qI) (rf_X0_isRow rfl) ?_
    rintro pv1 v1 ev1
    change pv1 = v1.toInt at ev1; subst ev1
    refine r_ite (pc_eq rfl (eI (0 : Int32) (by decide))) ?_ ?_
    · exact r_some (qP_i (qI_i (eI (-2 : Int32) (by decide))) (qM_i hm))
    · refine r_bind (A := qI) (rf_X0_in rfl (eI (0 : Int32) (by decide)) (eI (3 : Int32) (by decide))) ?_
      rintro pv2 v2 ev2
      change pv2 = v2.toInt at ev2; subst ev2
      refine r_ite (pc_eq rfl (eI (0 : Int32) (by decide))) ?_ ?_
      · exact r_some (qP_i (qI_i (eI (-2 : Int32) (by decide))) (qM_i hm))
      · refine r_p32 (px_sub (px_n (3 : Int32) (by decide)) (px_v _)) ?_
        refine r_bind (A := qI) (rf_X0_in rfl (eI (0 : Int32) (by decide)) rfl) ?_
        rintro pv3 v3 ev3
        change pv3 = v3.toInt at ev3; subst ev3
        refine r_ite (pc_eq rfl (eI (0 : Int32) (by decide))) ?_ ?_
        · exact r_some (qP_i (qI_i (eI (-2 : Int32) (by decide))) (qM_i hm))
        · refine r_gr (d := 1) hm (lc_o hL) (lc_f0 hL) ?_
          refine r_gr (d := 2) hm (ls_o (lc_s1 hL)) (ls_f0 (lc_s1 hL)) ?_
          refine r_ald (ls_k1 (lc_s1 hL)) (eI (4 : Int32) (by decide)) (fun _ => rfl) (fun v6 => ?_)
          refine r_ite (pc_eq rfl (eI (6 : Int32) (by decide))) ?_ ?_
          · exact r_some (qP_i (qI_i (eI (-2 : Int32) (by decide))) (qM_i hm))
          · refine r_gr (d := 1) hm (lc_o hL) (lc_f0 hL) ?_
            refine r_gr (d := 1) hm (lc_o hL) (lc_f0 hL) ?_
            refine r_gr (d := 15) hm (ls_o (lc_s1 hL)) (ls_f7 (lc_s1 hL)) ?_
            refine r_p32 (px_add (px_mul (px_n (10 : Int32) (by decide)) (px_v _)) (px_v _)) ?_
            refine r_bind (A := (qP qI (qM (bC M) m0))) (r_rc (B := (bC M)) (c := 1) (ls_o (lc_s1 hL)) (rf_X1_adds hL hm (lc_s1 hL) rfl (ls_k14 (lc_s1 hL)) (ls_r14 (lc_s1 hL)) (ls_e14 (lc_s1 hL)) (fun _ _ _ => wC (by omega)) (eI (4 : Int32) (by decide)) (by decide) rfl rfl)) ?_
            rintro ⟨pv10, S11⟩ ⟨v10, m11⟩ ⟨ev10, ⟨em11, hm11⟩⟩
            change pv10 = v10.toInt at ev10; subst ev10
            change S11 = pI (bC M) m11 at em11; subst em11
            exact r_some (qP_i (qI_i rfl) (qM_i hm11))
def p_X0_letterOf (a0 : Int) (a1 : Int) : Option Int :=
if a1 = 0 then (zlt (pdv a0 25) fun x1 =>
some (x1))
else (if a1 = 1 then (zlt (pdv a0 5) fun x2 =>
zlt (prm x2 5) fun x3 =>
some (x3))
else (zlt (prm a0 5) fun x4 =>
some (x4)))
set_option maxHeartbeats 4000000 in
theorem rf_X0_letterOf {pa0 : Int} {a0 : Int32} (ea0 : pa0 = a0.toInt) {pa1 : Int} {a1 : Int32} (ea1 : pa1 = a1.toInt) : pRf qI (p_X0_letterOf pa0 pa1) (f_X0_letterOf a0 a1) := by
  subst ea0
  subst ea1
  unfold p_X0_letterOf f_X0_letterOf
  refine r_ite (pc_eq rfl (eI (0 : Int32) (by decide))) ?_ ?_
  · refine r_x32 (pe_dv (by decide) rfl (eI (25 : Int32) (by decide))) ?_
    exact r_some (qI_i rfl)
  · refine r_ite (pc_eq rfl (eI (1 : Int32) (by decide))) ?_ ?_
    · refine r_x32 (pe_dv (by decide) rfl (eI (5 : Int32) (by decide))) ?_
      refine r_x32 (pe_rm (by decide) rfl (eI (5 : Int32) (by decide))) ?_
      exact r_some (qI_i rfl)
    · refine r_x32 (pe_rm (by decide) rfl (eI (5 : Int32) (by decide))) ?_
      exact r_some (qI_i rfl)
def pb_X0_howOften_4 (a0 : Int) (a1 : Int) : (Int × Int) → Option (Int ⊕ (Int × Int)) := fun (v4, v5) =>
if 3 ≤ v5 then (some (.inl v4))
else ((p_X0_letterOf a0 v5).bind fun v6 =>
if v6 = a1 then (p32 (v4 + 1) fun v9 =>
p32 (v5 + 1) fun v10 =>
some (.inr (v9, v10)))
else (p32 (v4 + 0) fun v7 =>
p32 (v5 + 1) fun v8 =>
some (.inr (v7, v8))))
set_option maxHeartbeats 4000000 in
theorem rb_X0_howOften_4 {pa0 : Int} {a0 : Int32} (ea0 : pa0 = a0.toInt) {pa1 : Int} {a1 : Int32} (ea1 : pa1 = a1.toInt) : ∀ s t, (qP qI qI) s t → pRf (qS qI (qP qI qI)) (pb_X0_howOften_4 pa0 pa1 s) (b_X0_howOften_4 a0 a1 t) := by
  subst ea0
  subst ea1
  rintro ⟨pv4, pv5⟩ ⟨v4, v5⟩ ⟨ev4, ev5⟩
  change pv4 = v4.toInt at ev4; subst ev4
  change pv5 = v5.toInt at ev5; subst ev5
  unfold pb_X0_howOften_4 b_X0_howOften_4
  try dsimp only
  refine r_ite (pc_le (eI (3 : Int32) (by decide)) rfl) ?_ ?_
  · exact r_some (qS_l (qI_i rfl))
  · refine r_bind (A := qI) (rf_X0_letterOf rfl rfl) ?_
    rintro pv6 v6 ev6
    change pv6 = v6.toInt at ev6; subst ev6
    refine r_ite (pc_eq rfl rfl) ?_ ?_
    · refine r_lt32 (px_add (px_v _) (px_n (1 : Int32) (by decide))) (fun v9 => ?_)
      refine r_lt32 (px_add (px_v _) (px_n (1 : Int32) (by decide))) (fun v10 => ?_)
      exact r_some (qS_r (qP_i (qI_i rfl) (qI_i rfl)))
    · refine r_lt32 (px_add (px_v _) (px_n (0 : Int32) (by decide))) (fun v7 => ?_)
      refine r_lt32 (px_add (px_v _) (px_n (1 : Int32) (by decide))) (fun v8 => ?_)
      exact r_some (qS_r (qP_i (qI_i rfl) (qI_i rfl)))
def p_X0_howOften (a0 : Int) (a1 : Int) : Option Int :=
(zLoop (pb_X0_howOften_4 a0 a1) zFuel (0, 0)).bind fun v2 =>
some (v2)
set_option maxHeartbeats 4000000 in
theorem rf_X0_howOften {pa0 : Int} {a0 : Int32} (ea0 : pa0 = a0.toInt) {pa1 : Int} {a1 : Int32} (ea1 : pa1 = a1.toInt) : pRf qI (p_X0_howOften pa0 pa1) (f_X0_howOften a0 a1) := by
  subst ea0
  subst ea1
  unfold p_X0_howOften f_X0_howOften
  refine r_bind (A := qI) (r_loop (rb_X0_howOften_4 rfl rfl) zFuel _ _ (qP_i (qI_i (eI (0 : Int32) (by decide))) (qI_i (eI (0 : Int32) (by decide))))) ?_
  rintro pv2 v2 ev2
  change pv2 = v2.toInt at ev2; subst ev2
  exact r_some (qI_i rfl)
def pb_X0_answerTo_7 (a0 : Int) (a1 : Int) : (Int × Int) → Option (Int ⊕ (Int × Int)) := fun (v4, v5) =>
if 3 ≤ v5 then (some (.inl v4))
else ((p_X0_letterOf a0 v5).bind fun v6 =>
(p_X0_letterOf a1 v5).bind fun v7 =>
if v6 = v7 then (p32 (v4 + 1) fun v10 =>
p32 (v5 + 1) fun v11 =>
some (.inr (v10, v11)))
else (p32 (v4 + 0) fun v8 =>
p32 (v5 + 1) fun v9 =>
some (.inr (v8, v9))))
set_option maxHeartbeats 4000000 in
theorem rb_X0_answerTo_7 {pa0 : Int} {a0 : Int32} (ea0 : pa0 = a0.toInt) {pa1 : Int} {a1 : Int32} (ea1 : pa1 = a1.toInt) : ∀ s t, (qP qI qI) s t → pRf (qS qI (qP qI qI)) (pb_X0_answerTo_7 pa0 pa1 s) (b_X0_answerTo_7 a0 a1 t) := by
  subst ea0
  subst ea1
  rintro ⟨pv4, pv5⟩ ⟨v4, v5⟩ ⟨ev4, ev5⟩
  change pv4 = v4.toInt at ev4; subst ev4
  change pv5 = v5.toInt at ev5; subst ev5
  unfold pb_X0_answerTo_7 b_X0_answerTo_7
  try dsimp only
  refine r_ite (pc_le (eI (3 : Int32) (by decide)) rfl) ?_ ?_
  · exact r_some (qS_l (qI_i rfl))
  · refine r_bind (A := qI) (rf_X0_letterOf rfl rfl) ?_
    rintro pv6 v6 ev6
    change pv6 = v6.toInt at ev6; subst ev6
    refine r_bind (A := qI) (rf_X0_letterOf rfl rfl) ?_
    rintro pv7 v7 ev7
    change pv7 = v7.toInt at ev7; subst ev7
    refine r_ite (pc_eq rfl rfl) ?_ ?_
    · refine r_lt32 (px_add (px_v _) (px_n (1 : Int32) (by decide))) (fun v10 => ?_)
      refine r_lt32 (px_add (px_v _) (px_n (1 : Int32) (by decide))) (fun v11 => ?_)
      exact r_some (qS_r (qP_i (qI_i rfl) (qI_i rfl)))
    · refine r_lt32 (px_add (px_v _) (px_n (0 : Int32) (by decide))) (fun v8 => ?_)
      refine r_lt32 (px_add (px_v _) (px_n (1 : Int32) (by decide))) (fun v9 => ?_)
      exact r_some (qS_r (qP_i (qI_i rfl) (qI_i rfl)))
def pb_X0_answerTo_45 (a0 : Int) (a1 : Int) : (Int × Int) → Option (Int ⊕ (Int × Int)) := fun (v15, v16) =>
if 5 ≤ v16 then (some (.inl v15))
else ((p_X0_howOften a0 v16).bind fun v17 =>
(p_X0_howOften a1 v16).bind fun v18 =>
(p_J7_min v17 v18).bind fun v19 =>
p32 (v15 + v19) fun v20 =>
p32 (v16 + 1) fun v21 =>
some (.inr (v20, v21)))
set_option maxHeartbeats 4000000 in
theorem rb_X0_answerTo_45 {pa0 : Int} {a0 : Int32} (ea0 : pa0 = a0.toInt) {pa1 : Int} {a1 : Int32} (ea1 : pa1 = a1.toInt) : ∀ s t, (qP qI qI) s t → pRf (qS qI (qP qI qI)) (pb_X0_answerTo_45 pa0 pa1 s) (b_X0_answerTo_45 a0 a1 t) := by
  subst ea0
  subst ea1
  rintro ⟨pv15, pv16⟩ ⟨v15, v16⟩ ⟨ev15, ev16⟩
  change pv15 = v15.toInt at ev15; subst ev15
  change pv16 = v16.toInt at ev16; subst ev16
  unfold pb_X0_answerTo_45 b_X0_answerTo_45
  try dsimp only
  refine r_ite (pc_le (eI (5 : Int32) (by decide)) rfl) ?_ ?_
  · exact r_some (qS_l (qI_i rfl))
  · refine r_bind (A := qI) (rf_X0_howOften rfl rfl) ?_
    rintro pv17 v17 ev17
    change pv17 = v17.toInt at ev17; subst ev17
    refine r_bind (A := qI) (rf_X0_howOften rfl rfl) ?_
    rintro pv18 v18 ev18
    change pv18 = v18.toInt at ev18; subst ev18
    refine r_bind (A := qI) (rf_J7_min rfl rfl) ?_
    rintro pv19 v19 ev19
    change pv19 = v19.toInt at ev19; subst ev19
    refine r_lt32 (px_add (px_v _) (px_v _)) (fun v20 => ?_)
    refine r_lt32 (px_add (px_v _) (px_n (1 : Int32) (by decide))) (fun v21 => ?_)
    exact r_some (qS_r (qP_i (qI_i rfl) (qI_i rfl)))
def p_X0_answerTo (a0 : Int) (a1 : Int) : Option Int :=
(zLoop (pb_X0_answerTo_7 a0 a1) zFuel (0, 0)).bind fun v2 =>
(zLoop (pb_X0_answerTo_45 a0 a1) zFuel (0, 0)).bind fun v13 =>
p32 (((10 * v2) + v13) - v2) fun x1 =>
some (x1)
set_option maxHeartbeats 4000000 in
theorem rf_X0_answerTo {pa0 : Int} {a0 : Int32} (ea0 : pa0 = a0.toInt) {pa1 : Int} {a1 : Int32} (ea1 : pa1 = a1.toInt) : pRf qI (p_X0_answerTo pa0 pa1) (f_X0_answerTo a0 a1) := by
  subst ea0
  subst ea1
  unfold p_X0_answerTo f_X0_answerTo
  refine r_bind (A := qI) (r_loop (rb_X0_answerTo_7 rfl rfl) zFuel _ _ (qP_i (qI_i (eI (0 : Int32) (by decide))) (qI_i (eI (0 : Int32) (by decide))))) ?_
  rintro pv2 v2 ev2
  change pv2 = v2.toInt at ev2; subst ev2
  refine r_bind (A := qI) (r_loop (rb_X0_answerTo_45 rfl rfl) zFuel _ _ (qP_i (qI_i (eI (0 : Int32) (by decide))) (qI_i (eI (0 : Int32) (by decide))))) ?_
  rintro pv13 v13 ev13
  change pv13 = v13.toInt at ev13; subst ev13
  refine r_p32 (px_sub (px_add (px_mul (px_n (10 : Int32) (by decide)) (px_v _)) (px_v _)) (px_v _)) ?_
  exact r_some (qI_i rfl)
def p_X0_answer (S : zP) (a1 : Int) (a2 : Int) : Option Int :=
(p_X0_isRow a1).bind fun v1 =>
if v1 = 0 then (some ((-1)))
else ((p_X0_isRow a2).bind fun v2 =>
if v2 = 0 then (some ((-1)))
else ((p_X0_answerTo a1 a2).bind fun v3 =>
some (v3)))
set_option maxHeartbeats 4000000 in
theorem rf_X0_answer {g : zGd} {M : Nat} {m0 : zMm} (hL : pLC g (zR m0) M) {m : zMm} (hm : pOk (bC M) m0 m) {pa1 : Int} {a1 : Int32} (ea1 : pa1 = a1.toInt) {pa2 : Int} {a2 : Int32} (ea2 : pa2 = a2.toInt) : pRf qI (p_X0_answer (pI (bC M) m) pa1 pa2) (f_X0_answer g m (some ((bC M).1 + 0)) a1 a2) := by
  subst ea1
  subst ea2
  unfold p_X0_answer f_X0_answer
  refine r_bind (A := qI) (rf_X0_isRow rfl) ?_
  rintro pv1 v1 ev1
  change pv1 = v1.toInt at ev1; subst ev1
  refine r_ite (pc_eq rfl (eI (0 : Int32) (by decide))) ?_ ?_
  · exact r_some (qI_i (eI (-1 : Int32) (by decide)))
  · refine r_bind (A := qI) (rf_X0_isRow rfl) ?_
    rintro pv2 v2 ev2
    change pv2 = v2.toInt at ev2; subst ev2
    refine r_ite (pc_eq rfl (eI (0 : Int32) (by decide))) ?_ ?_
    · exact r_some (qI_i (eI (-1 : Int32) (by decide)))
    · refine r_bind (A := qI) (rf_X0_answerTo rfl rfl) ?_
      rintro pv3 v3 ev3
      change pv3 = v3.toInt at ev3; subst ev3
      exact r_some (qI_i rfl)
def pb_X0_doesFit_2 (S : zP) (a1 : Int) : Int → Option ((Int ⊕ Unit) ⊕ Int) := fun v3 =>
(pald S 2 7 4).bind fun v6 =>
if v6 ≤ v3 then (some (.inl (.inr ())))
else ((pidx 6 v3).bind fun q1 =>
(pald S (16 + q1) 2 0).bind fun v10 =>
(p_X0_answerTo v10 a1).bind fun v11 =>
(pidx 6 v3).bind fun q2 =>
(pald S (16 + q2) 2 1).bind fun v15 =>
if v11 = v15 then (p32 (v3 + 1) fun v16 =>
some (.inr v16))
else (some (.inl (.inl 0))))
set_option maxHeartbeats 4000000 in
theorem rb_X0_doesFit_2 {g : zGd} {M : Nat} {m0 : zMm} (hL : pLC g (zR m0) M) {m : zMm} (hm : pOk (bC M) m0 m) {pa1 : Int} {a1 : Int32} (ea1 : pa1 = a1.toInt) : ∀ s t, qI s t → pRf (qS (qS qI qU) qI) (pb_X0_doesFit_2 (pI (bC M) m) pa1 s) (b_X0_doesFit_2 g m (some ((bC M).1 + 0)) a1 t) := by
  subst ea1
  rintro pv3 v3 ev3
  change pv3 = v3.toInt at ev3; subst ev3
  unfold pb_X0_doesFit_2 b_X0_doesFit_2
  try dsimp only
  refine r_gr (d := 1) hm (lc_o hL) (lc_f0 hL) ?_
  refine r_gr (d := 2) hm (ls_o (lc_s1 hL)) (ls_f0 (lc_s1 hL)) ?_
  refine r_ald (ls_k1 (lc_s1 hL)) (eI (4 : Int32) (by decide)) (fun _ => rfl) (fun v6 => ?_)
  refine r_ite (pc_le rfl rfl) ?_ ?_
  · exact r_some (qS_l (qS_r qU_i))
  · refine r_gr (d := 1) hm (lc_o hL) (lc_f0 hL) ?_
    refine r_gr (d := 15) hm (ls_o (lc_s1 hL)) (ls_f7 (lc_s1 hL)) ?_
    refine r_aldr (d := 16) hm (ls_k14 (lc_s1 hL)) rfl (ls_r14 (lc_s1 hL)) (fun q1 hq1 => ?_)
    refine r_ald ((ls_e14 (lc_s1 hL)) q1 hq1) (eI (0 : Int32) (by decide)) (fun _ => rfl) (fun v10 => ?_)
    refine r_bind (A := qI) (rf_X0_answerTo rfl rfl) ?_
    rintro pv11 v11 ev11
    change pv11 = v11.toInt at ev11; subst ev11
    refine r_gr (d := 1) hm (lc_o hL) (lc_f0 hL) ?_
    refine r_gr (d := 15) hm (ls_o (lc_s1 hL)) (ls_f7 (lc_s1 hL)) ?_
    refine r_aldr (d := 16) hm (ls_k14 (lc_s1 hL)) rfl (ls_r14 (lc_s1 hL)) (fun q2 hq2 => ?_)
    refine r_ald ((ls_e14 (lc_s1 hL)) q2 hq2) (eI (1 : Int32) (by decide)) (fun _ => rfl) (fun v15 => ?_)
    refine r_ite (pc_eq rfl rfl) ?_ ?_
    · refine r_lt32 (px_add (px_v _) (px_n (1 : Int32) (by decide))) (fun v16 => ?_)
      exact r_some (qS_r (qI_i rfl))
    · exact r_some (qS_l (qS_l (qI_i (eI (0 : Int32) (by decide)))))
def p_X0_doesFit (S : zP) (a1 : Int) : Option Int :=
zEx (σ := Unit) (zLoop (pb_X0_doesFit_2 S a1) zFuel 0) fun _ =>
some (1)
set_option maxHeartbeats 4000000 in
theorem rf_X0_doesFit {g : zGd} {M : Nat} {m0 : zMm} (hL : pLC g (zR m0) M) {m : zMm} (hm : pOk (bC M) m0 m) {pa1 : Int} {a1 : Int32} (ea1 : pa1 = a1.toInt) : pRf qI (p_X0_doesFit (pI (bC M) m) pa1) (f_X0_doesFit g m (some ((bC M).1 + 0)) a1) := by
  subst ea1
  unfold p_X0_doesFit f_X0_doesFit
  refine r_ex (Q := qI) (R := qU) ?_ ?_
  · exact (r_loop (rb_X0_doesFit_2 hL hm rfl) zFuel _ _ (qI_i (eI (0 : Int32) (by decide))))
  rintro _ _ _
  exact r_some (qI_i (eI (1 : Int32) (by decide)))
def pb_X0_laysFits_7  : (Int × zP) → Option (zP ⊕ (Int × zP)) := fun (v5, S6) =>
if 125 ≤ v5 then (some (.inl S6))
else ((p_X0_doesFit S6 v5).bind fun v7 =>
if v7 = 0 then (p32 (v5 + 1) fun v14 =>
some (.inr (v14, S6)))
else (zlt (S6 0 18) fun v9 =>
(past S6 148 125 v9 v5).bind fun S10 =>
zlt (S10 0 18) fun v11 =>
p32 (v11 + 1) fun x1 =>
zlt (pup S10 0 18 x1) fun S12 =>
p32 (v5 + 1) fun v13 =>
some (.inr (v13, S12))))
set_option maxHeartbeats 4000000 in
theorem rb_X0_laysFits_7 {g : zGd} {M : Nat} {m0 : zMm} (hL : pLC g (zR m0) M)  : ∀ s t, (qP qI (qM (bC M) m0)) s t → pRf (qS (qM (bC M) m0) (qP qI (qM (bC M) m0))) (pb_X0_laysFits_7 s) (b_X0_laysFits_7 g (some ((bC M).1 + 0)) t) := by
  rintro ⟨pv5, S6⟩ ⟨v5, m6⟩ ⟨ev5, ⟨em6, hm6⟩⟩
  change pv5 = v5.toInt at ev5; subst ev5
  change S6 = pI (bC M) m6 at em6; subst em6
  unfold pb_X0_laysFits_7 b_X0_laysFits_7
  try dsimp only
  refine r_ite (pc_le (eI (125 : Int32) (by decide)) rfl) ?_ ?_
  · exact r_some (qS_l (qM_i hm6))
  · refine r_bind (A := qI) (r_rc (B := (bC M)) (c := 0) (lc_o hL) (rf_X0_doesFit hL hm6 rfl)) ?_
    rintro pv7 v7 ev7
    change pv7 = v7.toInt at ev7; subst ev7
    refine r_ite (pc_eq rfl (eI (0 : Int32) (by decide))) ?_ ?_
    · refine r_lt32 (px_add (px_v _) (px_n (1 : Int32) (by decide))) (fun v14 => ?_)
      exact r_some (qS_r (qP_i (qI_i rfl) (qM_i hm6)))
    · refine r_gr (d := 148) hm6 (lc_o hL) (lc_f17 hL) ?_
      refine r_gi (B := (bC M)) (c := 0) (i := 18) (lc_o hL) rfl rfl (fun v9 => ?_)
      refine r_ast hm6 (lc_k148 hL) hL.1 (wC (by omega)) rfl rfl (fun _ => rfl) (fun m10 hm10 => ?_)
      refine r_gi (B := (bC M)) (c := 0) (i := 18) (lc_o hL) rfl rfl (fun v11 => ?_)
      refine r_p32 (px_add (px_v _) (px_n (1 : Int32) (by decide))) ?_
      refine r_pi (B := (bC M)) (c := 0) (i := 18) hm10 (lc_o hL) hL.1 (wC (by omega)) rfl rfl rfl (fun m12 hm12 => ?_)
      refine r_lt32 (px_add (px_v _) (px_n (1 : Int32) (by decide))) (fun v13 => ?_)
      exact r_some (qS_r (qP_i (qI_i rfl) (qM_i hm12)))
def p_X0_laysFits (S : zP) : Option zP :=
zlt (pup S 0 18 0) fun S1 =>
(zLoop pb_X0_laysFits_7 zFuel (0, S1)).bind fun S3 =>
some (S3)
set_option maxHeartbeats 4000000 in
theorem rf_X0_laysFits {g : zGd} {M : Nat} {m0 : zMm} (hL : pLC g (zR m0) M) {m : zMm} (hm : pOk (bC M) m0 m) : pRf (qM (bC M) m0) (p_X0_laysFits (pI (bC M) m)) (f_X0_laysFits g m (some ((bC M).1 + 0))) := by
  unfold p_X0_laysFits f_X0_laysFits
  refine r_pi (B := (bC M)) (c := 0) (i := 18) hm (lc_o hL) hL.1 (wC (by omega)) rfl rfl (eI (0 : Int32) (by decide)) (fun m1 hm1 => ?_)
  refine r_bind (A := (qM (bC M) m0)) (r_loop (rb_X0_laysFits_7 hL) zFuel _ _ (qP_i (qI_i (eI (0 : Int32) (by decide))) (qM_i hm1))) ?_
  rintro S3 m3 ⟨em3, hm3⟩
  change S3 = pI (bC M) m3 at em3; subst em3
  exact r_some (qM_i hm3)
def p_X0_fits (S : zP) : Option (Int × zP) :=
(p_X0_laysFits S).bind fun S1 =>
zlt (S1 0 18) fun v2 =>
some ((v2, S1))
set_option maxHeartbeats 4000000 in
theorem rf_X0_fits {g : zGd} {M : Nat} {m0 : zMm} (hL : pLC g (zR m0) M) {m : zMm} (hm : pOk (bC M) m0 m) : pRf (qP qI (qM (bC M) m0)) (p_X0_fits (pI (bC M) m)) (f_X0_fits g m (some ((bC M).1 + 0))) := by
  unfold p_X0_fits f_X0_fits
  refine r_bind (A := (qM (bC M) m0)) (r_rc (B := (bC M)) (c := 0) (lc_o hL) (rf_X0_laysFits hL hm)) ?_
  rintro S1 m1 ⟨em1, hm1⟩
  change S1 = pI (bC M) m1 at em1; subst em1
  refine r_gi (B := (bC M)) (c := 0) (i := 18) (lc_o hL) rfl rfl (fun v2 => ?_)
  exact r_some (qP_i (qI_i rfl) (qM_i hm1))
def p_X0_fit (S : zP) (a1 : Int) : Option (Int × zP) :=
(p_X0_laysFits S).bind fun S1 =>
zlt (S1 0 18) fun v2 =>
p32 (v2 - 1) fun x1 =>
(p_X0_in a1 0 x1).bind fun v3 =>
if v3 = 0 then (some (((-1), S1)))
else ((pald S1 148 125 a1).bind fun v5 =>
some ((v5, S1)))
set_option maxHeartbeats 4000000 in
theorem rf_X0_fit {g : zGd} {M : Nat} {m0 : zMm} (hL : pLC g (zR m0) M) {m : zMm} (hm : pOk (bC M) m0 m) {pa1 : Int} {a1 : Int32} (ea1 : pa1 = a1.toInt) : pRf (qP qI (qM (bC M) m0)) (p_X0_fit (pI (bC M) m) pa1) (f_X0_fit g m (some ((bC M).1 + 0)) a1) := by
  subst ea1
  unfold p_X0_fit f_X0_fit
  refine r_bind (A := (qM (bC M) m0)) (r_rc (B := (bC M)) (c := 0) (lc_o hL) (rf_X0_laysFits hL hm)) ?_
  rintro S1 m1 ⟨em1, hm1⟩
  change S1 = pI (bC M) m1 at em1; subst em1
  refine r_gi (B := (bC M)) (c := 0) (i := 18) (lc_o hL) rfl rfl (fun v2 => ?_)
  refine r_p32 (px_sub (px_v _) (px_n (1 : Int32) (by decide))) ?_
  refine r_bind (A := qI) (rf_X0_in rfl (eI (0 : Int32) (by decide)) rfl) ?_
  rintro pv3 v3 ev3
  change pv3 = v3.toInt at ev3; subst ev3
  refine r_ite (pc_eq rfl (eI (0 : Int32) (by decide))) ?_ ?_
  · exact r_some (qP_i (qI_i (eI (-1 : Int32) (by decide))) (qM_i hm1))
  · refine r_gr (d := 148) hm1 (lc_o hL) (lc_f17 hL) ?_
    refine r_ald (lc_k148 hL) rfl (fun _ => rfl) (fun v5 => ?_)
    exact r_some (qP_i (qI_i rfl) (qM_i hm1))
def pb_X0_mostAlike_15 (a1 : Int) : (Int × (Int × (Int × zP))) → Option ((Int × (Int × zP)) ⊕ (Int × (Int × (Int × zP)))) := fun (v8, v9, v10, S11) =>
zlt (S11 0 18) fun v12 =>
if v12 ≤ v10 then (some (.inl (v8, v9, S11)))
else ((pald S11 148 125 v10).bind fun v14 =>
(p_X0_answerTo a1 v14).bind fun v15 =>
(pald S11 149 31 v15).bind fun v17 =>
p32 (v17 + 1) fun x1 =>
(past S11 149 31 v15 x1).bind fun S18 =>
(pald S18 149 31 v15).bind fun v20 =>
(p_J7_max v8 v20).bind fun v21 =>
(pald S18 148 125 v10).bind fun v23 =>
if v23 = a1 then (p32 (v10 + 1) fun v25 =>
some (.inr (v21, 1, v25, S18)))
else (p32 (v10 + 1) fun v24 =>
some (.inr (v21, v9, v24, S18))))
set_option maxHeartbeats 4000000 in
theorem rb_X0_mostAlike_15 {g : zGd} {M : Nat} {m0 : zMm} (hL : pLC g (zR m0) M) {pa1 : Int} {a1 : Int32} (ea1 : pa1 = a1.toInt) : ∀ s t, (qP qI (qP qI (qP qI (qM (bC M) m0)))) s t → pRf (qS (qP qI (qP qI (qM (bC M) m0))) (qP qI (qP qI (qP qI (qM (bC M) m0))))) (pb_X0_mostAlike_15 pa1 s) (b_X0_mostAlike_15 g (some ((bC M).1 + 0)) a1 t) := by
  subst ea1
  rintro ⟨pv8, pv9, pv10, S11⟩ ⟨v8, v9, v10, m11⟩ ⟨ev8, ev9, ev10, ⟨em11, hm11⟩⟩
  change pv8 = v8.toInt at ev8; subst ev8
  change pv9 = v9.toInt at ev9; subst ev9
  change pv10 = v10.toInt at ev10; subst ev10
  change S11 = pI (bC M) m11 at em11; subst em11
  unfold pb_X0_mostAlike_15 b_X0_mostAlike_15
  try dsimp only
  refine r_gi (B := (bC M)) (c := 0) (i := 18) (lc_o hL) rfl rfl (fun v12 => ?_)
  refine r_ite (pc_le rfl rfl) ?_ ?_
  · exact r_some (qS_l (qP_i (qI_i rfl) (qP_i (qI_i rfl) (qM_i hm11))))
  · refine r_gr (d := 148) hm11 (lc_o hL) (lc_f17 hL) ?_
    refine r_ald (lc_k148 hL) rfl (fun _ => rfl) (fun v14 => ?_)
    refine r_bind (A := qI) (rf_X0_answerTo rfl rfl) ?_
    rintro pv15 v15 ev15
    change pv15 = v15.toInt at ev15; subst ev15
    refine r_gr (d := 149) hm11 (lc_o hL) (lc_f19 hL) ?_
    refine r_ald (lc_k149 hL) rfl (fun _ => rfl) (fun v17 => ?_)
    refine r_p32 (px_add (px_v _) (px_n (1 : Int32) (by decide))) ?_
    refine r_ast hm11 (lc_k149 hL) hL.1 (wC (by omega)) rfl rfl (fun _ => rfl) (fun m18 hm18 => ?_)
    refine r_gr (d := 149) hm18 (lc_o hL) (lc_f19 hL) ?_
    refine r_ald (lc_k149 hL) rfl (fun _ => rfl) (fun v20 => ?_)
    refine r_bind (A := qI) (rf_J7_max rfl rfl) ?_
    rintro pv21 v21 ev21
    change pv21 = v21.toInt at ev21; subst ev21
    refine r_gr (d := 148) hm18 (lc_o hL) (lc_f17 hL) ?_
    refine r_ald (lc_k148 hL) rfl (fun _ => rfl) (fun v23 => ?_)
    refine r_ite (pc_eq rfl rfl) ?_ ?_
    · refine r_lt32 (px_add (px_v _) (px_n (1 : Int32) (by decide))) (fun v25 => ?_)
      exact r_some (qS_r (qP_i (qI_i rfl) (qP_i (qI_i (eI (1 : Int32) (by decide))) (qP_i (qI_i rfl) (qM_i hm18)))))
    · refine r_lt32 (px_add (px_v _) (px_n (1 : Int32) (by decide))) (fun v24 => ?_)
      exact r_some (qS_r (qP_i (qI_i rfl) (qP_i (qI_i rfl) (qP_i (qI_i rfl) (qM_i hm18)))))
def p_X0_mostAlike (S : zP) (a1 : Int) : Option (Int × zP) :=
(p_J12_fill S 149 31 0).bind fun S2 =>
(zLoop (pb_X0_mostAlike_15 a1) zFuel (0, 0, 0, S2)).bind fun (v4, v5, S6) =>
p32 ((2 * v4) - v5) fun x1 =>
some ((x1, S6))
set_option maxHeartbeats 4000000 in
theorem rf_X0_mostAlike {g : zGd} {M : Nat} {m0 : zMm} (hL : pLC g (zR m0) M) {m : zMm} (hm : pOk (bC M) m0 m) {pa1 : Int} {a1 : Int32} (ea1 : pa1 = a1.toInt) : pRf (qP qI (qM (bC M) m0)) (p_X0_mostAlike (pI (bC M) m) pa1) (f_X0_mostAlike g m (some ((bC M).1 + 0)) a1) := by
  subst ea1
  unfold p_X0_mostAlike f_X0_mostAlike
  refine r_gr (d := 149) hm (lc_o hL) (lc_f19 hL) ?_
  refine r_bind (A := (qM (bC M) m0)) (rf_J12_fill hL hm (lc_k149 hL) (fun _ => wC (by omega)) (by decide) (eI (0 : Int32) (by decide))) ?_
  rintro S2 m2 ⟨em2, hm2⟩
  change S2 = pI (bC M) m2 at em2; subst em2
  refine r_bind (A := (qP qI (qP qI (qM (bC M) m0)))) (r_loop (rb_X0_mostAlike_15 hL rfl) zFuel _ _ (qP_i (qI_i (eI (0 : Int32) (by decide))) (qP_i (qI_i (eI (0 : Int32) (by decide))) (qP_i (qI_i (eI (0 : Int32) (by decide))) (qM_i hm2))))) ?_
  rintro ⟨pv4, pv5, S6⟩ ⟨v4, v5, m6⟩ ⟨ev4, ev5, ⟨em6, hm6⟩⟩
  change pv4 = v4.toInt at ev4; subst ev4
  change pv5 = v5.toInt at ev5; subst ev5
  change S6 = pI (bC M) m6 at em6; subst em6
  refine r_p32 (px_sub (px_mul (px_n (2 : Int32) (by decide)) (px_v _)) (px_v _)) ?_
  exact r_some (qP_i (qI_i rfl) (qM_i hm6))
def pb_X0_ask_24  : (Int × (Int × (Int × zP))) → Option ((Int × zP) ⊕ (Int × (Int × (Int × zP)))) := fun (v9, v10, v11, S12) =>
if 125 ≤ v11 then (some (.inl (v9, S12)))
else ((p_X0_mostAlike S12 v11).bind fun (v13, S14) =>
((if v10 ≤ v13 then (some (v9))
else (some (v11)) : Option Int)).bind fun v16 =>
(p_J7_min v10 v13).bind fun v17 =>
p32 (v11 + 1) fun v18 =>
some (.inr (v16, v17, v18, S14)))
set_option maxHeartbeats 4000000 in
theorem rb_X0_ask_24 {g : zGd} {M : Nat} {m0 : zMm} (hL : pLC g (zR m0) M)  : ∀ s t, (qP qI (qP qI (qP qI (qM (bC M) m0)))) s t → pRf (qS (qP qI (qM (bC M) m0)) (qP qI (qP qI (qP qI (qM (bC M) m0))))) (pb_X0_ask_24 s) (b_X0_ask_24 g (some ((bC M).1 + 0)) t) := by
  rintro ⟨pv9, pv10, pv11, S12⟩ ⟨v9, v10, v11, m12⟩ ⟨ev9, ev10, ev11, ⟨em12, hm12⟩⟩
  change pv9 = v9.toInt at ev9; subst ev9
  change pv10 = v10.toInt at ev10; subst ev10
  change pv11 = v11.toInt at ev11; subst ev11
  change S12 = pI (bC M) m12 at em12; subst em12
  unfold pb_X0_ask_24 b_X0_ask_24
  try dsimp only
  refine r_ite (pc_le (eI (125 : Int32) (by decide)) rfl) ?_ ?_
  · exact r_some (qS_l (qP_i (qI_i rfl) (qM_i hm12)))
  · refine r_bind (A := (qP qI (qM (bC M) m0))) (r_rc (B := (bC M)) (c := 0) (lc_o hL) (rf_X0_mostAlike hL hm12 rfl)) ?_
    rintro ⟨pv13, S14⟩ ⟨v13, m14⟩ ⟨ev13, ⟨em14, hm14⟩⟩
    change pv13 = v13.toInt at ev13; subst ev13
    change S14 = pI (bC M) m14 at em14; subst em14
    refine r_bind (A := qI) ?_ ?_
    · refine r_ite (pc_le rfl rfl) ?_ ?_
      · exact r_some (qI_i rfl)
      · exact r_some (qI_i rfl)
    rintro pv16 v16 ev16
    change pv16 = v16.toInt at ev16; subst ev16
    refine r_bind (A := qI) (rf_J7_min rfl rfl) ?_
    rintro pv17 v17 ev17
    change pv17 = v17.toInt at ev17; subst ev17
    refine r_lt32 (px_add (px_v _) (px_n (1 : Int32) (by decide))) (fun v18 => ?_)
    exact r_some (qS_r (qP_i (qI_i rfl) (qP_i (qI_i rfl) (qP_i (qI_i rfl) (qM_i hm14)))))
def p_X0_ask (S : zP) : Option (Int × zP) :=
(p_X0_laysFits S).bind fun S1 =>
zlt (S1 0 18) fun v2 =>
if 2 ≤ v2 then ((p_X0_mostAlike S1 0).bind fun (v3, S4) =>
(zLoop pb_X0_ask_24 zFuel (0, v3, 1, S4)).bind fun (v6, S7) =>
some ((v6, S7)))
else (some (((-1), S1)))
set_option maxHeartbeats 4000000 in
theorem rf_X0_ask {g : zGd} {M : Nat} {m0 : zMm} (hL : pLC g (zR m0) M) {m : zMm} (hm : pOk (bC M) m0 m) : pRf (qP qI (qM (bC M) m0)) (p_X0_ask (pI (bC M) m)) (f_X0_ask g m (some ((bC M).1 + 0))) := by
  unfold p_X0_ask f_X0_ask
  refine r_bind (A := (qM (bC M) m0)) (r_rc (B := (bC M)) (c := 0) (lc_o hL) (rf_X0_laysFits hL hm)) ?_
  rintro S1 m1 ⟨em1, hm1⟩
  change S1 = pI (bC M) m1 at em1; subst em1
  refine r_gi (B := (bC M)) (c := 0) (i := 18) (lc_o hL) rfl rfl (fun v2 => ?_)
  refine r_ite (pc_le (eI (2 : Int32) (by decide)) rfl) ?_ ?_
  · refine r_bind (A := (qP qI (qM (bC M) m0))) (r_rc (B := (bC M)) (c := 0) (lc_o hL) (rf_X0_mostAlike hL hm1 (eI (0 : Int32) (by decide)))) ?_
    rintro ⟨pv3, S4⟩ ⟨v3, m4⟩ ⟨ev3, ⟨em4, hm4⟩⟩
    change pv3 = v3.toInt at ev3; subst ev3
    change S4 = pI (bC M) m4 at em4; subst em4
    refine r_bind (A := (qP qI (qM (bC M) m0))) (r_loop (rb_X0_ask_24 hL) zFuel _ _ (qP_i (qI_i (eI (0 : Int32) (by decide))) (qP_i (qI_i rfl) (qP_i (qI_i (eI (1 : Int32) (by decide))) (qM_i hm4))))) ?_
    rintro ⟨pv6, S7⟩ ⟨v6, m7⟩ ⟨ev6, ⟨em7, hm7⟩⟩
    change pv6 = v6.toInt at ev6; subst ev6
    change S7 = pI (bC M) m7 at em7; subst em7
    exact r_some (qP_i (qI_i rfl) (qM_i hm7))
  · exact r_some (qP_i (qI_i (eI (-1 : Int32) (by decide))) (qM_i hm1))
def p_X0_gain (S : zP) (a1 : Int) (a2 : Int) (a3 : Int) (a4 : Int) : Option (Int × zP) :=
(p_X0_in a1 0 1).bind fun v1 =>
if v1 = 0 then (some ((0, S)))
else ((p_X0_in a2 0 1).bind fun v2 =>
if v2 = 0 then (some ((0, S)))
else ((p_X0_in a3 (-99) 99).bind fun v3 =>
if v3 = 0 then (some ((0, S)))
else ((p_X0_in a4 (-99) 99).bind fun v4 =>
if v4 = 0 then (some ((0, S)))
else (p32 ((2 * a1) + a2) fun x1 =>
(past S 6 4 x1 a3).bind fun S7 =>
(past S7 7 4 x1 a4).bind fun S10 =>
some ((1, S10))))))
set_option maxHeartbeats 4000000 in
theorem rf_X0_gain {g : zGd} {M : Nat} {m0 : zMm} (hL : pLC g (zR m0) M) {m : zMm} (hm : pOk (bC M) m0 m) {pa1 : Int} {a1 : Int32} (ea1 : pa1 = a1.toInt) {pa2 : Int} {a2 : Int32} (ea2 : pa2 = a2.toInt) {pa3 : Int} {a3 : Int32} (ea3 : pa3 = a3.toInt) {pa4 : Int} {a4 : Int32} (ea4 : pa4 = a4.toInt) : pRf (qP qI (qM (bC M) m0)) (p_X0_gain (pI (bC M) m) pa1 pa2 pa3 pa4) (f_X0_gain g m (some ((bC M).1 + 0)) a1 a2 a3 a4) := by
  subst ea1
  subst ea2
  subst ea3
  subst ea4
  unfold p_X0_gain f_X0_gain
  refine r_bind (A := qI) (rf_X0_in rfl (eI (0 : Int32) (by decide)) (eI (1 : Int32) (by decide))) ?_
  rintro pv1 v1 ev1
  change pv1 = v1.toInt at ev1; subst ev1
  refine r_ite (pc_eq rfl (eI (0 : Int32) (by decide))) ?_ ?_
  · exact r_some (qP_i (qI_i (eI (0 : Int32) (by decide))) (qM_i hm))
  · refine r_bind (A := qI) (rf_X0_in rfl (eI (0 : Int32) (by decide)) (eI (1 : Int32) (by decide))) ?_
    rintro pv2 v2 ev2
    change pv2 = v2.toInt at ev2; subst ev2
    refine r_ite (pc_eq rfl (eI (0 : Int32) (by decide))) ?_ ?_
    · exact r_some (qP_i (qI_i (eI (0 : Int32) (by decide))) (qM_i hm))
    · refine r_bind (A := qI) (rf_X0_in rfl (eI (-99 : Int32) (by decide)) (eI (99 : Int32) (by decide))) ?_
      rintro pv3 v3 ev3
      change pv3 = v3.toInt at ev3; subst ev3
      refine r_ite (pc_eq rfl (eI (0 : Int32) (by decide))) ?_ ?_
      · exact r_some (qP_i (qI_i (eI (0 : Int32) (by decide))) (qM_i hm))
      · refine r_bind (A := qI) (rf_X0_in rfl (eI (-99 : Int32) (by decide)) (eI (99 : Int32) (by decide))) ?_
        rintro pv4 v4 ev4
        change pv4 = v4.toInt at ev4; subst ev4
        refine r_ite (pc_eq rfl (eI (0 : Int32) (by decide))) ?_ ?_
        · exact r_some (qP_i (qI_i (eI (0 : Int32) (by decide))) (qM_i hm))
        · refine r_gr (d := 1) hm (lc_o hL) (lc_f0 hL) ?_
          refine r_gr (d := 6) hm (ls_o (lc_s1 hL)) (ls_f4 (lc_s1 hL)) ?_
          refine r_p32 (px_add (px_mul (px_n (2 : Int32) (by decide)) (px_v _)) (px_v _)) ?_
          refine r_ast hm (ls_k5 (lc_s1 hL)) hL.1 (wC (by omega)) rfl rfl (fun _ => rfl) (fun m7 hm7 => ?_)
          refine r_gr (d := 1) hm7 (lc_o hL) (lc_f0 hL) ?_
          refine r_gr (d := 7) hm7 (ls_o (lc_s1 hL)) (ls_f5 (lc_s1 hL)) ?_
          refine r_ast hm7 (ls_k6 (lc_s1 hL)) hL.1 (wC (by omega)) rfl rfl (fun _ => rfl) (fun m10 hm10 => ?_)
          exact r_some (qP_i (qI_i (eI (1 : Int32) (by decide))) (qM_i hm10))
def pb_X0_rests_4 (S : zP) : (Int × Int) → Option (Int ⊕ (Int × Int)) := fun (v4, v5) =>
if 4 ≤ v5 then (some (.inl v4))
else (zlt (pxor v5 2) fun x1 =>
(pald S 6 4 x1).bind fun v8 =>
(pald S 6 4 v5).bind fun v11 =>
if v11 < v8 then (zlt (por v4 0) fun v12 =>
p32 (v5 + 1) fun v13 =>
some (.inr (v12, v13)))
else (zlt (pxor v5 1) fun x2 =>
(pald S 7 4 x2).bind fun v16 =>
(pald S 7 4 v5).bind fun v19 =>
if v19 < v16 then (zlt (por v4 0) fun v20 =>
p32 (v5 + 1) fun v21 =>
some (.inr (v20, v21)))
else (zlt (pshl 1 v5) fun x3 =>
zlt (por v4 x3) fun v22 =>
p32 (v5 + 1) fun v23 =>
some (.inr (v22, v23)))))
set_option maxHeartbeats 4000000 in
theorem rb_X0_rests_4 {g : zGd} {M : Nat} {m0 : zMm} (hL : pLC g (zR m0) M) {m : zMm} (hm : pOk (bC M) m0 m) : ∀ s t, (qP qI qI) s t → pRf (qS qI (qP qI qI)) (pb_X0_rests_4 (pI (bC M) m) s) (b_X0_rests_4 g m (some ((bC M).1 + 0)) t) := by
  rintro ⟨pv4, pv5⟩ ⟨v4, v5⟩ ⟨ev4, ev5⟩
  change pv4 = v4.toInt at ev4; subst ev4
  change pv5 = v5.toInt at ev5; subst ev5
  unfold pb_X0_rests_4 b_X0_rests_4
  try dsimp only
  refine r_ite (pc_le (eI (4 : Int32) (by decide)) rfl) ?_ ?_
  · exact r_some (qS_l (qI_i rfl))
  · refine r_gr (d := 1) hm (lc_o hL) (lc_f0 hL) ?_
    refine r_gr (d := 6) hm (ls_o (lc_s1 hL)) (ls_f4 (lc_s1 hL)) ?_
    refine r_x32 (pe_xor rfl (eI (2 : Int32) (by decide))) ?_
    refine r_ald (ls_k5 (lc_s1 hL)) rfl (fun _ => rfl) (fun v8 => ?_)
    refine r_gr (d := 1) hm (lc_o hL) (lc_f0 hL) ?_
    refine r_gr (d := 6) hm (ls_o (lc_s1 hL)) (ls_f4 (lc_s1 hL)) ?_
    refine r_ald (ls_k5 (lc_s1 hL)) rfl (fun _ => rfl) (fun v11 => ?_)
    refine r_ite (pc_lt rfl rfl) ?_ ?_
    · refine r_ltx (pe_or rfl (eI (0 : Int32) (by decide))) (fun v12 => ?_)
      refine r_lt32 (px_add (px_v _) (px_n (1 : Int32) (by decide))) (fun v13 => ?_)
      exact r_some (qS_r (qP_i (qI_i rfl) (qI_i rfl)))
    · refine r_gr (d := 1) hm (lc_o hL) (lc_f0 hL) ?_
      refine r_gr (d := 7) hm (ls_o (lc_s1 hL)) (ls_f5 (lc_s1 hL)) ?_
      refine r_x32 (pe_xor rfl (eI (1 : Int32) (by decide))) ?_
      refine r_ald (ls_k6 (lc_s1 hL)) rfl (fun _ => rfl) (fun v16 => ?_)
      refine r_gr (d := 1) hm (lc_o hL) (lc_f0 hL) ?_
      refine r_gr (d := 7) hm (ls_o (lc_s1 hL)) (ls_f5 (lc_s1 hL)) ?_
      refine r_ald (ls_k6 (lc_s1 hL)) rfl (fun _ => rfl) (fun v19 => ?_)
      refine r_ite (pc_lt rfl rfl) ?_ ?_
      · refine r_ltx (pe_or rfl (eI (0 : Int32) (by decide))) (fun v20 => ?_)
        refine r_lt32 (px_add (px_v _) (px_n (1 : Int32) (by decide))) (fun v21 => ?_)
        exact r_some (qS_r (qP_i (qI_i rfl) (qI_i rfl)))
      · refine r_x32 (pe_shl (eI (1 : Int32) (by decide)) rfl) ?_
        refine r_ltx (pe_or rfl rfl) (fun v22 => ?_)
        refine r_lt32 (px_add (px_v _) (px_n (1 : Int32) (by decide))) (fun v23 => ?_)
        exact r_some (qS_r (qP_i (qI_i rfl) (qI_i rfl)))
def p_X0_rests (S : zP) : Option Int :=
(zLoop (pb_X0_rests_4 S) zFuel (0, 0)).bind fun v2 =>
some (v2)
set_option maxHeartbeats 4000000 in
theorem rf_X0_rests {g : zGd} {M : Nat} {m0 : zMm} (hL : pLC g (zR m0) M) {m : zMm} (hm : pOk (bC M) m0 m) : pRf qI (p_X0_rests (pI (bC M) m)) (f_X0_rests g m (some ((bC M).1 + 0))) := by
  unfold p_X0_rests f_X0_rests
  refine r_bind (A := qI) (r_loop (rb_X0_rests_4 hL hm) zFuel _ _ (qP_i (qI_i (eI (0 : Int32) (by decide))) (qI_i (eI (0 : Int32) (by decide))))) ?_
  rintro pv2 v2 ev2
  change pv2 = v2.toInt at ev2; subst ev2
  exact r_some (qI_i rfl)
def qp_X0_common (rec : Int → Int → Option Int) (a0 : Int) (a2 : Int) : Option Int :=
if a2 = 0 then (some (a0))
else ((pjmod a0 a2).bind fun w1 =>
(rec a2 w1).bind fun w2 =>
some (w2))
set_option maxHeartbeats 4000000 in
theorem rq_X0_common {rec : Int → Int → Option Int} {rec' : Int64 → Int64 → Option (Int64)} (hrec : ∀ {pa0 : Int} {a0 : Int64} (_ : pa0 = a0.toInt) {pa2 : Int} {a2 : Int64} (_ : pa2 = a2.toInt), pRf qJ (rec pa0 pa2) (rec' a0 a2)) {pa0 : Int} {a0 : Int64} (ea0 : pa0 = a0.toInt) {pa2 : Int} {a2 : Int64} (ea2 : pa2 = a2.toInt) : pRf qJ (qp_X0_common rec pa0 pa2) (q_X0_common rec' a0 a2) := by
  subst ea0
  subst ea2
  unfold qp_X0_common q_X0_common
  refine r_ite (pcj_eq rfl (eJ (0 : Int64) (by decide))) ?_ ?_
  · exact r_some (qJ_i rfl)
  · refine r_lmod rfl rfl (fun w1 => ?_)
    refine r_bind (A := qJ) (hrec rfl rfl) ?_
    rintro pw2 w2 ew2
    change pw2 = w2.toInt at ew2; subst ew2
    exact r_some (qJ_i rfl)
def rp_common : Nat → Int → Int → Option Int
  | 0 => fun _ _ => none
  | d + 1 => qp_X0_common (rp_common d)
set_option maxHeartbeats 4000000 in
theorem rr_common : ∀ (d : Nat) {x y : Int} {a b : Int64} (_ : x = a.toInt) (_ : y = b.toInt), pRf qJ (rp_common d x y) (r_common d a b)
  | 0, _, _, _, _, _, _ => r_none
  | d + 1, _, _, _, _, h1, h2 => rq_X0_common (fun h1 => fun h2 => rr_common d h1 h2) h1 h2
def p_X0_common (a1 a2 : Int) : Option Int := rp_common 120 a1 a2
set_option maxHeartbeats 4000000 in
theorem rf_X0_common {x y : Int} {a b : Int64} (h1 : x = a.toInt) (h2 : y = b.toInt) : pRf qJ (p_X0_common x y) (f_X0_common a b) := rr_common 120 h1 h2
def p_X0_part (a0 : Int) (a2 : Int) (a4 : Int) : Option Int :=
((if a4 = 0 then (some (a0))
else (some (a2)) : Option Int)).bind fun w2 =>
(p_X0_common a2 a0).bind fun w3 =>
(pjdiv w2 w3).bind fun w4 =>
some (w4)
set_option maxHeartbeats 4000000 in
theorem rf_X0_part {pa0 : Int} {a0 : Int64} (ea0 : pa0 = a0.toInt) {pa2 : Int} {a2 : Int64} (ea2 : pa2 = a2.toInt) {pa4 : Int} {a4 : Int32} (ea4 : pa4 = a4.toInt) : pRf qJ (p_X0_part pa0 pa2 pa4) (f_X0_part a0 a2 a4) := by
  subst ea0
  subst ea2
  subst ea4
  unfold p_X0_part f_X0_part
  refine r_bind (A := qJ) ?_ ?_
  · refine r_ite (pc_eq rfl (eI (0 : Int32) (by decide))) ?_ ?_
    · exact r_some (qJ_i rfl)
    · exact r_some (qJ_i rfl)
  rintro pw2 w2 ew2
  change pw2 = w2.toInt at ew2; subst ew2
  refine r_bind (A := qJ) (rf_X0_common rfl rfl) ?_
  rintro pw3 w3 ew3
  change pw3 = w3.toInt at ew3; subst ew3
  refine r_ldiv rfl rfl (fun w4 => ?_)
  exact r_some (qJ_i rfl)
def p_X0_mixed (S : zP) (a1 : Int) (a2 : Int) : Option Int :=
(pald S 7 4 0).bind fun v3 =>
(pald S 7 4 1).bind fun v6 =>
p32 (v3 - v6) fun v7 =>
(pald S 7 4 3).bind fun v10 =>
(pald S 7 4 2).bind fun v13 =>
p32 (v10 - v13) fun v14 =>
(pald S 6 4 0).bind fun v17 =>
(pald S 6 4 2).bind fun v20 =>
p32 (v17 - v20) fun v21 =>
(pald S 6 4 3).bind fun v24 =>
(pald S 6 4 1).bind fun v27 =>
p32 (v24 - v27) fun v28 =>
p32 (v7 * v14) fun x1 =>
if x1 ≤ 0 then (some ((-1)))
else (p32 (v21 * v28) fun x2 =>
if 0 < x2 then (((if a1 = 0 then (some (v21))
else (some (v7)) : Option Int)).bind fun v30 =>
(p_J7_abs v30).bind fun v31 =>
((if a1 = 0 then (some (v28))
else (some (v14)) : Option Int)).bind fun v33 =>
(p_J7_abs v33).bind fun v34 =>
p32 (v31 + v34) fun x3 =>
(p_X0_part v31 x3 a2).bind fun w35 =>
p32 w35 fun x4 =>
some (x4))
else (some ((-1))))
set_option maxHeartbeats 4000000 in
theorem rf_X0_mixed {g : zGd} {M : Nat} {m0 : zMm} (hL : pLC g (zR m0) M) {m : zMm} (hm : pOk (bC M) m0 m) {pa1 : Int} {a1 : Int32} (ea1 : pa1 = a1.toInt) {pa2 : Int} {a2 : Int32} (ea2 : pa2 = a2.toInt) : pRf qI (p_X0_mixed (pI (bC M) m) pa1 pa2) (f_X0_mixed g m (some ((bC M).1 + 0)) a1 a2) := by
  subst ea1
  subst ea2
  unfold p_X0_mixed f_X0_mixed
  refine r_gr (d := 1) hm (lc_o hL) (lc_f0 hL) ?_
  refine r_gr (d := 7) hm (ls_o (lc_s1 hL)) (ls_f5 (lc_s1 hL)) ?_
  refine r_ald (ls_k6 (lc_s1 hL)) (eI (0 : Int32) (by decide)) (fun _ => rfl) (fun v3 => ?_)
  refine r_gr (d := 1) hm (lc_o hL) (lc_f0 hL) ?_
  refine r_gr (d := 7) hm (ls_o (lc_s1 hL)) (ls_f5 (lc_s1 hL)) ?_
  refine r_ald (ls_k6 (lc_s1 hL)) (eI (1 : Int32) (by decide)) (fun _ => rfl) (fun v6 => ?_)
  refine r_lt32 (px_sub (px_v _) (px_v _)) (fun v7 => ?_)
  refine r_gr (d := 1) hm (lc_o hL) (lc_f0 hL) ?_
  refine r_gr (d := 7) hm (ls_o (lc_s1 hL)) (ls_f5 (lc_s1 hL)) ?_
  refine r_ald (ls_k6 (lc_s1 hL)) (eI (3 : Int32) (by decide)) (fun _ => rfl) (fun v10 => ?_)
  refine r_gr (d := 1) hm (lc_o hL) (lc_f0 hL) ?_
  refine r_gr (d := 7) hm (ls_o (lc_s1 hL)) (ls_f5 (lc_s1 hL)) ?_
  refine r_ald (ls_k6 (lc_s1 hL)) (eI (2 : Int32) (by decide)) (fun _ => rfl) (fun v13 => ?_)
  refine r_lt32 (px_sub (px_v _) (px_v _)) (fun v14 => ?_)
  refine r_gr (d := 1) hm (lc_o hL) (lc_f0 hL) ?_
  refine r_gr (d := 6) hm (ls_o (lc_s1 hL)) (ls_f4 (lc_s1 hL)) ?_
  refine r_ald (ls_k5 (lc_s1 hL)) (eI (0 : Int32) (by decide)) (fun _ => rfl) (fun v17 => ?_)
  refine r_gr (d := 1) hm (lc_o hL) (lc_f0 hL) ?_
  refine r_gr (d := 6) hm (ls_o (lc_s1 hL)) (ls_f4 (lc_s1 hL)) ?_
  refine r_ald (ls_k5 (lc_s1 hL)) (eI (2 : Int32) (by decide)) (fun _ => rfl) (fun v20 => ?_)
  refine r_lt32 (px_sub (px_v _) (px_v _)) (fun v21 => ?_)
  refine r_gr (d := 1) hm (lc_o hL) (lc_f0 hL) ?_
  refine r_gr (d := 6) hm (ls_o (lc_s1 hL)) (ls_f4 (lc_s1 hL)) ?_
  refine r_ald (ls_k5 (lc_s1 hL)) (eI (3 : Int32) (by decide)) (fun _ => rfl) (fun v24 => ?_)
  refine r_gr (d := 1) hm (lc_o hL) (lc_f0 hL) ?_
  refine r_gr (d := 6) hm (ls_o (lc_s1 hL)) (ls_f4 (lc_s1 hL)) ?_
  refine r_ald (ls_k5 (lc_s1 hL)) (eI (1 : Int32) (by decide)) (fun _ => rfl) (fun v27 => ?_)
  refine r_lt32 (px_sub (px_v _) (px_v _)) (fun v28 => ?_)
  refine r_p32 (px_mul (px_v _) (px_v _)) ?_
  refine r_ite (pc_le rfl (eI (0 : Int32) (by decide))) ?_ ?_
  · exact r_some (qI_i (eI (-1 : Int32) (by decide)))
  · refine r_p32 (px_mul (px_v _) (px_v _)) ?_
    refine r_ite (pc_lt (eI (0 : Int32) (by decide)) rfl) ?_ ?_
    · refine r_bind (A := qI) ?_ ?_
      · refine r_ite (pc_eq rfl (eI (0 : Int32) (by decide))) ?_ ?_
        · exact r_some (qI_i rfl)
        · exact r_some (qI_i rfl)
      rintro pv30 v30 ev30
      change pv30 = v30.toInt at ev30; subst ev30
      refine r_bind (A := qI) (rf_J7_abs rfl) ?_
      rintro pv31 v31 ev31
      change pv31 = v31.toInt at ev31; subst ev31
      refine r_bind (A := qI) ?_ ?_
      · refine r_ite (pc_eq rfl (eI (0 : Int32) (by decide))) ?_ ?_
        · exact r_some (qI_i rfl)
        · exact r_some (qI_i rfl)
      rintro pv33 v33 ev33
      change pv33 = v33.toInt at ev33; subst ev33
      refine r_bind (A := qI) (rf_J7_abs rfl) ?_
      rintro pv34 v34 ev34
      change pv34 = v34.toInt at ev34; subst ev34
      refine r_p32 (px_add (px_v _) (px_v _)) ?_
      refine r_bind (A := qJ) (rf_X0_part (pe_i64 _) (pe_i64 _) rfl) ?_
      rintro pw35 w35 ew35
      change pw35 = w35.toInt at ew35; subst ew35
      refine r_p32 (px_j (pj_v _)) ?_
      exact r_some (qI_i rfl)
    · exact r_some (qI_i (eI (-1 : Int32) (by decide)))
def p_X0_saying (S : zP) (a1 : Int) (a2 : Int) : Option (Int × zP) :=
if a1 = (-1) then ((p_X1_clears S 1 5).bind fun (v12, S13) =>
some ((v12, S13)))
else ((p_X0_in a1 0 99).bind fun v1 =>
if v1 = 0 then (some (((-2), S)))
else ((p_X0_in a2 1 99).bind fun v2 =>
if v2 = 0 then (some (((-2), S)))
else ((pald S 2 7 5).bind fun v5 =>
if 8 ≤ v5 then (some (((-2), S)))
else ((p_X1_adds S 1 22 8 2 5 a1 a2).bind fun (v9, S10) =>
some ((v9, S10))))))
set_option maxHeartbeats 4000000 in
theorem rf_X0_saying {g : zGd} {M : Nat} {m0 : zMm} (hL : pLC g (zR m0) M) {m : zMm} (hm : pOk (bC M) m0 m) {pa1 : Int} {a1 : Int32} (ea1 : pa1 = a1.toInt) {pa2 : Int} {a2 : Int32} (ea2 : pa2 = a2.toInt) : pRf (qP qI (qM (bC M) m0)) (p_X0_saying (pI (bC M) m) pa1 pa2) (f_X0_saying g m (some ((bC M).1 + 0)) a1 a2) := by
  subst ea1
  subst ea2
  unfold p_X0_saying f_X0_saying
  refine r_ite (pc_eq rfl (eI (-1 : Int32) (by decide))) ?_ ?_
  · refine r_gr (d := 1) hm (lc_o hL) (lc_f0 hL) ?_
    refine r_bind (A := (qP qI (qM (bC M) m0))) (r_rc (B := (bC M)) (c := 1) (ls_o (lc_s1 hL)) (rf_X1_clears hL hm (lc_s1 hL) rfl (eI (5 : Int32) (by decide)) (by decide))) ?_
    rintro ⟨pv12, S13⟩ ⟨v12, m13⟩ ⟨ev12, ⟨em13, hm13⟩⟩
    change pv12 = v12.toInt at ev12; subst ev12
    change S13 = pI (bC M) m13 at em13; subst em13
    exact r_some (qP_i (qI_i rfl) (qM_i hm13))
  · refine r_bind (A := qI) (rf_X0_in rfl (eI (0 : Int32) (by decide)) (eI (99 : Int32) (by decide))) ?_
    rintro pv1 v1 ev1
    change pv1 = v1.toInt at ev1; subst ev1
    refine r_ite (pc_eq rfl (eI (0 : Int32) (by decide))) ?_ ?_
    · exact r_some (qP_i (qI_i (eI (-2 : Int32) (by decide))) (qM_i hm))
    · refine r_bind (A := qI) (rf_X0_in rfl (eI (1 : Int32) (by decide)) (eI (99 : Int32) (by decide))) ?_
      rintro pv2 v2 ev2
      change pv2 = v2.toInt at ev2; subst ev2
      refine r_ite (pc_eq rfl (eI (0 : Int32) (by decide))) ?_ ?_
      · exact r_some (qP_i (qI_i (eI (-2 : Int32) (by decide))) (qM_i hm))
      · refine r_gr (d := 1) hm (lc_o hL) (lc_f0 hL) ?_
        refine r_gr (d := 2) hm (ls_o (lc_s1 hL)) (ls_f0 (lc_s1 hL)) ?_
        refine r_ald (ls_k1 (lc_s1 hL)) (eI (5 : Int32) (by decide)) (fun _ => rfl) (fun v5 => ?_)
        refine r_ite (pc_le (eI (8 : Int32) (by decide)) rfl) ?_ ?_
        · exact r_some (qP_i (qI_i (eI (-2 : Int32) (by decide))) (qM_i hm))
        · refine r_gr (d := 1) hm (lc_o hL) (lc_f0 hL) ?_
          refine r_gr (d := 1) hm (lc_o hL) (lc_f0 hL) ?_
          refine r_gr (d := 22) hm (ls_o (lc_s1 hL)) (ls_f8 (lc_s1 hL)) ?_
          refine r_bind (A := (qP qI (qM (bC M) m0))) (r_rc (B := (bC M)) (c := 1) (ls_o (lc_s1 hL)) (rf_X1_adds hL hm (lc_s1 hL) rfl (ls_k21 (lc_s1 hL)) (ls_r21 (lc_s1 hL)) (ls_e21 (lc_s1 hL)) (fun _ _ _ => wC (by omega)) (eI (5 : Int32) (by decide)) (by decide) rfl rfl)) ?_
          rintro ⟨pv9, S10⟩ ⟨v9, m10⟩ ⟨ev9, ⟨em10, hm10⟩⟩
          change pv9 = v9.toInt at ev9; subst ev9
          change S10 = pI (bC M) m10 at em10; subst em10
          exact r_some (qP_i (qI_i rfl) (qM_i hm10))
def pb_X0_sumOf_5 (S : zP) (a1 : Int) (a2 : Int) : (Int × Int) → Option (Int ⊕ (Int × Int)) := fun (v4, v5) =>
(pald S 2 7 5).bind fun v8 =>
if v8 ≤ v5 then (some (.inl v4))
else ((p_X0_has a1 v5).bind fun v9 =>
if v9 = 0 then (p32 (v4 + 0) fun v10 =>
p32 (v5 + 1) fun v11 =>
some (.inr (v10, v11)))
else ((pidx 8 v5).bind fun q1 =>
(pald S (23 + q1) 2 a2).bind fun v15 =>
p32 (v4 + v15) fun v16 =>
p32 (v5 + 1) fun v17 =>
some (.inr (v16, v17))))
set_option maxHeartbeats 4000000 in
theorem rb_X0_sumOf_5 {g : zGd} {M : Nat} {m0 : zMm} (hL : pLC g (zR m0) M) {m : zMm} (hm : pOk (bC M) m0 m) {pa1 : Int} {a1 : Int32} (ea1 : pa1 = a1.toInt) {pa2 : Int} {a2 : Int32} (ea2 : pa2 = a2.toInt) : ∀ s t, (qP qI qI) s t → pRf (qS qI (qP qI qI)) (pb_X0_sumOf_5 (pI (bC M) m) pa1 pa2 s) (b_X0_sumOf_5 g m (some ((bC M).1 + 0)) a1 a2 t) := by
  subst ea1
  subst ea2
  rintro ⟨pv4, pv5⟩ ⟨v4, v5⟩ ⟨ev4, ev5⟩
  change pv4 = v4.toInt at ev4; subst ev4
  change pv5 = v5.toInt at ev5; subst ev5
  unfold pb_X0_sumOf_5 b_X0_sumOf_5
  try dsimp only
  refine r_gr (d := 1) hm (lc_o hL) (lc_f0 hL) ?_
  refine r_gr (d := 2) hm (ls_o (lc_s1 hL)) (ls_f0 (lc_s1 hL)) ?_
  refine r_ald (ls_k1 (lc_s1 hL)) (eI (5 : Int32) (by decide)) (fun _ => rfl) (fun v8 => ?_)
  refine r_ite (pc_le rfl rfl) ?_ ?_
  · exact r_some (qS_l (qI_i rfl))
  · refine r_bind (A := qI) (rf_X0_has rfl rfl) ?_
    rintro pv9 v9 ev9
    change pv9 = v9.toInt at ev9; subst ev9
    refine r_ite (pc_eq rfl (eI (0 : Int32) (by decide))) ?_ ?_
    · refine r_lt32 (px_add (px_v _) (px_n (0 : Int32) (by decide))) (fun v10 => ?_)
      refine r_lt32 (px_add (px_v _) (px_n (1 : Int32) (by decide))) (fun v11 => ?_)
      exact r_some (qS_r (qP_i (qI_i rfl) (qI_i rfl)))
    · refine r_gr (d := 1) hm (lc_o hL) (lc_f0 hL) ?_
      refine r_gr (d := 22) hm (ls_o (lc_s1 hL)) (ls_f8 (lc_s1 hL)) ?_
      refine r_aldr (d := 23) hm (ls_k21 (lc_s1 hL)) rfl (ls_r21 (lc_s1 hL)) (fun q1 hq1 => ?_)
      refine r_ald ((ls_e21 (lc_s1 hL)) q1 hq1) rfl (fun _ => rfl) (fun v15 => ?_)
      refine r_lt32 (px_add (px_v _) (px_v _)) (fun v16 => ?_)
      refine r_lt32 (px_add (px_v _) (px_n (1 : Int32) (by decide))) (fun v17 => ?_)
      exact r_some (qS_r (qP_i (qI_i rfl) (qI_i rfl)))
def p_X0_sumOf (S : zP) (a1 : Int) (a2 : Int) : Option Int :=
(zLoop (pb_X0_sumOf_5 S a1 a2) zFuel (0, 0)).bind fun v2 =>
some (v2)
set_option maxHeartbeats 4000000 in
theorem rf_X0_sumOf {g : zGd} {M : Nat} {m0 : zMm} (hL : pLC g (zR m0) M) {m : zMm} (hm : pOk (bC M) m0 m) {pa1 : Int} {a1 : Int32} (ea1 : pa1 = a1.toInt) {pa2 : Int} {a2 : Int32} (ea2 : pa2 = a2.toInt) : pRf qI (p_X0_sumOf (pI (bC M) m) pa1 pa2) (f_X0_sumOf g m (some ((bC M).1 + 0)) a1 a2) := by
  subst ea1
  subst ea2
  unfold p_X0_sumOf f_X0_sumOf
  refine r_bind (A := qI) (r_loop (rb_X0_sumOf_5 hL hm rfl rfl) zFuel _ _ (qP_i (qI_i (eI (0 : Int32) (by decide))) (qI_i (eI (0 : Int32) (by decide))))) ?_
  rintro pv2 v2 ev2
  change pv2 = v2.toInt at ev2; subst ev2
  exact r_some (qI_i rfl)
def p_X0_isLess (S : zP) (a1 : Int) (a2 : Int) : Option Int :=
(p_X0_sumOf S a1 0).bind fun v1 =>
(p_X0_sumOf S a2 0).bind fun v2 =>
if v1 < v2 then (some (1))
else ((p_X0_sumOf S a1 0).bind fun v3 =>
(p_X0_sumOf S a2 0).bind fun v4 =>
if v3 = v4 then ((p_J15_bitCount a1).bind fun v5 =>
(p_J15_bitCount a2).bind fun v6 =>
if v6 ≤ v5 then (some (0))
else (some (1)))
else (some (0)))
set_option maxHeartbeats 4000000 in
theorem rf_X0_isLess {g : zGd} {M : Nat} {m0 : zMm} (hL : pLC g (zR m0) M) {m : zMm} (hm : pOk (bC M) m0 m) {pa1 : Int} {a1 : Int32} (ea1 : pa1 = a1.toInt) {pa2 : Int} {a2 : Int32} (ea2 : pa2 = a2.toInt) : pRf qI (p_X0_isLess (pI (bC M) m) pa1 pa2) (f_X0_isLess g m (some ((bC M).1 + 0)) a1 a2) := by
  subst ea1
  subst ea2
  unfold p_X0_isLess f_X0_isLess
  refine r_bind (A := qI) (r_rc (B := (bC M)) (c := 0) (lc_o hL) (rf_X0_sumOf hL hm rfl (eI (0 : Int32) (by decide)))) ?_
  rintro pv1 v1 ev1
  change pv1 = v1.toInt at ev1; subst ev1
  refine r_bind (A := qI) (r_rc (B := (bC M)) (c := 0) (lc_o hL) (rf_X0_sumOf hL hm rfl (eI (0 : Int32) (by decide)))) ?_
  rintro pv2 v2 ev2
  change pv2 = v2.toInt at ev2; subst ev2
  refine r_ite (pc_lt rfl rfl) ?_ ?_
  · exact r_some (qI_i (eI (1 : Int32) (by decide)))
  · refine r_bind (A := qI) (r_rc (B := (bC M)) (c := 0) (lc_o hL) (rf_X0_sumOf hL hm rfl (eI (0 : Int32) (by decide)))) ?_
    rintro pv3 v3 ev3
    change pv3 = v3.toInt at ev3; subst ev3
    refine r_bind (A := qI) (r_rc (B := (bC M)) (c := 0) (lc_o hL) (rf_X0_sumOf hL hm rfl (eI (0 : Int32) (by decide)))) ?_
    rintro pv4 v4 ev4
    change pv4 = v4.toInt at ev4; subst ev4
    refine r_ite (pc_eq rfl rfl) ?_ ?_
    · refine r_bind (A := qI) (rf_J15_bitCount rfl) ?_
      rintro pv5 v5 ev5
      change pv5 = v5.toInt at ev5; subst ev5
      refine r_bind (A := qI) (rf_J15_bitCount rfl) ?_
      rintro pv6 v6 ev6
      change pv6 = v6.toInt at ev6; subst ev6
      refine r_ite (pc_le rfl rfl) ?_ ?_
      · exact r_some (qI_i (eI (0 : Int32) (by decide)))
      · exact r_some (qI_i (eI (1 : Int32) (by decide)))
    · exact r_some (qI_i (eI (0 : Int32) (by decide)))
def pb_X0_least_18 (S : zP) (a1 : Int) : (Int × Int) → Option (Int ⊕ (Int × Int)) := fun (v5, v6) =>
(pald S 2 7 5).bind fun v9 =>
zlt (pshl 1 v9) fun x1 =>
if x1 ≤ v6 then (some (.inl v5))
else ((p_X0_sumOf S v6 1).bind fun v10 =>
if v10 < a1 then (p32 (v6 + 1) fun v11 =>
some (.inr (v5, v11)))
else (if v5 = (-1) then (p32 (v6 + 1) fun v12 =>
some (.inr (v6, v12)))
else ((p_X0_isLess S v6 v5).bind fun v13 =>
if v13 = 0 then (p32 (v6 + 1) fun v14 =>
some (.inr (v5, v14)))
else (p32 (v6 + 1) fun v15 =>
some (.inr (v6, v15))))))
set_option maxHeartbeats 4000000 in
theorem rb_X0_least_18 {g : zGd} {M : Nat} {m0 : zMm} (hL : pLC g (zR m0) M) {m : zMm} (hm : pOk (bC M) m0 m) {pa1 : Int} {a1 : Int32} (ea1 : pa1 = a1.toInt) : ∀ s t, (qP qI qI) s t → pRf (qS qI (qP qI qI)) (pb_X0_least_18 (pI (bC M) m) pa1 s) (b_X0_least_18 g m (some ((bC M).1 + 0)) a1 t) := by
  subst ea1
  rintro ⟨pv5, pv6⟩ ⟨v5, v6⟩ ⟨ev5, ev6⟩
  change pv5 = v5.toInt at ev5; subst ev5
  change pv6 = v6.toInt at ev6; subst ev6
  unfold pb_X0_least_18 b_X0_least_18
  try dsimp only
  refine r_gr (d := 1) hm (lc_o hL) (lc_f0 hL) ?_
  refine r_gr (d := 2) hm (ls_o (lc_s1 hL)) (ls_f0 (lc_s1 hL)) ?_
  refine r_ald (ls_k1 (lc_s1 hL)) (eI (5 : Int32) (by decide)) (fun _ => rfl) (fun v9 => ?_)
  refine r_x32 (pe_shl (eI (1 : Int32) (by decide)) rfl) ?_
  refine r_ite (pc_le rfl rfl) ?_ ?_
  · exact r_some (qS_l (qI_i rfl))
  · refine r_bind (A := qI) (r_rc (B := (bC M)) (c := 0) (lc_o hL) (rf_X0_sumOf hL hm rfl (eI (1 : Int32) (by decide)))) ?_
    rintro pv10 v10 ev10
    change pv10 = v10.toInt at ev10; subst ev10
    refine r_ite (pc_lt rfl rfl) ?_ ?_
    · refine r_lt32 (px_add (px_v _) (px_n (1 : Int32) (by decide))) (fun v11 => ?_)
      exact r_some (qS_r (qP_i (qI_i rfl) (qI_i rfl)))
    · refine r_ite (pc_eq rfl (eI (-1 : Int32) (by decide))) ?_ ?_
      · refine r_lt32 (px_add (px_v _) (px_n (1 : Int32) (by decide))) (fun v12 => ?_)
        exact r_some (qS_r (qP_i (qI_i rfl) (qI_i rfl)))
      · refine r_bind (A := qI) (r_rc (B := (bC M)) (c := 0) (lc_o hL) (rf_X0_isLess hL hm rfl rfl)) ?_
        rintro pv13 v13 ev13
        change pv13 = v13.toInt at ev13; subst ev13
        refine r_ite (pc_eq rfl (eI (0 : Int32) (by decide))) ?_ ?_
        · refine r_lt32 (px_add (px_v _) (px_n (1 : Int32) (by decide))) (fun v14 => ?_)
          exact r_some (qS_r (qP_i (qI_i rfl) (qI_i rfl)))
        · refine r_lt32 (px_add (px_v _) (px_n (1 : Int32) (by decide))) (fun v15 => ?_)
          exact r_some (qS_r (qP_i (qI_i rfl) (qI_i rfl)))
def p_X0_least (S : zP) (a1 : Int) (a2 : Int) : Option Int :=
(p_X0_in a1 0 999).bind fun v1 =>
if v1 = 0 then (some ((-1)))
else ((zLoop (pb_X0_least_18 S a1) zFuel ((-1), 0)).bind fun v3 =>
if a2 = 0 then (some (v3))
else (if v3 = (-1) then (some (v3))
else ((p_X0_sumOf S v3 0).bind fun v16 =>
some (v16))))
set_option maxHeartbeats 4000000 in
theorem rf_X0_least {g : zGd} {M : Nat} {m0 : zMm} (hL : pLC g (zR m0) M) {m : zMm} (hm : pOk (bC M) m0 m) {pa1 : Int} {a1 : Int32} (ea1 : pa1 = a1.toInt) {pa2 : Int} {a2 : Int32} (ea2 : pa2 = a2.toInt) : pRf qI (p_X0_least (pI (bC M) m) pa1 pa2) (f_X0_least g m (some ((bC M).1 + 0)) a1 a2) := by
  subst ea1
  subst ea2
  unfold p_X0_least f_X0_least
  refine r_bind (A := qI) (rf_X0_in rfl (eI (0 : Int32) (by decide)) (eI (999 : Int32) (by decide))) ?_
  rintro pv1 v1 ev1
  change pv1 = v1.toInt at ev1; subst ev1
  refine r_ite (pc_eq rfl (eI (0 : Int32) (by decide))) ?_ ?_
  · exact r_some (qI_i (eI (-1 : Int32) (by decide)))
  · refine r_bind (A := qI) (r_loop (rb_X0_least_18 hL hm rfl) zFuel _ _ (qP_i (qI_i (eI (-1 : Int32) (by decide))) (qI_i (eI (0 : Int32) (by decide))))) ?_
    rintro pv3 v3 ev3
    change pv3 = v3.toInt at ev3; subst ev3
    refine r_ite (pc_eq rfl (eI (0 : Int32) (by decide))) ?_ ?_
    · exact r_some (qI_i rfl)
    · refine r_ite (pc_eq rfl (eI (-1 : Int32) (by decide))) ?_ ?_
      · exact r_some (qI_i rfl)
      · refine r_bind (A := qI) (r_rc (B := (bC M)) (c := 0) (lc_o hL) (rf_X0_sumOf hL hm rfl (eI (0 : Int32) (by decide)))) ?_
        rintro pv16 v16 ev16
        change pv16 = v16.toInt at ev16; subst ev16
        exact r_some (qI_i rfl)
def pb_X0_near_54 (a1 : Int) (a3 : Int) (v10 : Int) : (Int × Int) → Option (Int ⊕ (Int × Int)) := fun (w14, v15) =>
if a3 ≤ v15 then (some (.inl w14))
else (if v10 < v15 then (p64 (w14 * a1) fun w16 =>
p32 (v15 + 1) fun v17 =>
some (.inr (w16, v17)))
else (p32 (10 - a1) fun x1 =>
p64 (w14 * x1) fun w18 =>
p32 (v15 + 1) fun v19 =>
some (.inr (w18, v19))))
set_option maxHeartbeats 4000000 in
theorem rb_X0_near_54 {pa1 : Int} {a1 : Int32} (ea1 : pa1 = a1.toInt) {pa3 : Int} {a3 : Int32} (ea3 : pa3 = a3.toInt) {pv10 : Int} {v10 : Int32} (ev10 : pv10 = v10.toInt) : ∀ s t, (qP qJ qI) s t → pRf (qS qJ (qP qJ qI)) (pb_X0_near_54 pa1 pa3 pv10 s) (b_X0_near_54 a1 a3 v10 t) := by
  subst ea1
  subst ea3
  subst ev10
  rintro ⟨pw14, pv15⟩ ⟨w14, v15⟩ ⟨ew14, ev15⟩
  change pw14 = w14.toInt at ew14; subst ew14
  change pv15 = v15.toInt at ev15; subst ev15
  unfold pb_X0_near_54 b_X0_near_54
  try dsimp only
  refine r_ite (pc_le rfl rfl) ?_ ?_
  · exact r_some (qS_l (qJ_i rfl))
  · refine r_ite (pc_lt rfl rfl) ?_ ?_
    · refine r_lt64 (pj_mul (pj_v _) (pj_i _)) (fun w16 => ?_)
      refine r_lt32 (px_add (px_v _) (px_n (1 : Int32) (by decide))) (fun v17 => ?_)
      exact r_some (qS_r (qP_i (qJ_i rfl) (qI_i rfl)))
    · refine r_p32 (px_sub (px_n (10 : Int32) (by decide)) (px_v _)) ?_
      refine r_lt64 (pj_mul (pj_v _) (pj_i _)) (fun w18 => ?_)
      refine r_lt32 (px_add (px_v _) (px_n (1 : Int32) (by decide))) (fun v19 => ?_)
      exact r_some (qS_r (qP_i (qJ_i rfl) (qI_i rfl)))
def pb_X0_near_42 (a1 : Int) (a2 : Int) (a3 : Int) : (Int × (Int × Int)) → Option ((Int × Int) ⊕ (Int × (Int × Int))) := fun (w8, w9, v10) =>
if a3 ≤ v10 then (some (.inl (w8, w9)))
else ((zLoop (pb_X0_near_54 a1 a3 v10) zFuel (1, 1)).bind fun w12 =>
((if a2 ≤ v10 then (some (0))
else (some (w12)) : Option Int)).bind fun w21 =>
p64 (w8 + w21) fun w22 =>
p64 (w9 + w12) fun w23 =>
p32 (v10 + 1) fun v24 =>
some (.inr (w22, w23, v24)))
set_option maxHeartbeats 4000000 in
theorem rb_X0_near_42 {pa1 : Int} {a1 : Int32} (ea1 : pa1 = a1.toInt) {pa2 : Int} {a2 : Int32} (ea2 : pa2 = a2.toInt) {pa3 : Int} {a3 : Int32} (ea3 : pa3 = a3.toInt) : ∀ s t, (qP qJ (qP qJ qI)) s t → pRf (qS (qP qJ qJ) (qP qJ (qP qJ qI))) (pb_X0_near_42 pa1 pa2 pa3 s) (b_X0_near_42 a1 a2 a3 t) := by
  subst ea1
  subst ea2
  subst ea3
  rintro ⟨pw8, pw9, pv10⟩ ⟨w8, w9, v10⟩ ⟨ew8, ew9, ev10⟩
  change pw8 = w8.toInt at ew8; subst ew8
  change pw9 = w9.toInt at ew9; subst ew9
  change pv10 = v10.toInt at ev10; subst ev10
  unfold pb_X0_near_42 b_X0_near_42
  try dsimp only
  refine r_ite (pc_le rfl rfl) ?_ ?_
  · exact r_some (qS_l (qP_i (qJ_i rfl) (qJ_i rfl)))
  · refine r_bind (A := qJ) (r_loop (rb_X0_near_54 rfl rfl rfl) zFuel _ _ (qP_i (qJ_i (eJ (1 : Int64) (by decide))) (qI_i (eI (1 : Int32) (by decide))))) ?_
    rintro pw12 w12 ew12
    change pw12 = w12.toInt at ew12; subst ew12
    refine r_bind (A := qJ) ?_ ?_
    · refine r_ite (pc_le rfl rfl) ?_ ?_
      · exact r_some (qJ_i (eJ (0 : Int64) (by decide)))
      · exact r_some (qJ_i rfl)
    rintro pw21 w21 ew21
    change pw21 = w21.toInt at ew21; subst ew21
    refine r_lt64 (pj_add (pj_v _) (pj_v _)) (fun w22 => ?_)
    refine r_lt64 (pj_add (pj_v _) (pj_v _)) (fun w23 => ?_)
    refine r_lt32 (px_add (px_v _) (px_n (1 : Int32) (by decide))) (fun v24 => ?_)
    exact r_some (qS_r (qP_i (qJ_i rfl) (qP_i (qJ_i rfl) (qI_i rfl))))
def p_X0_near (S : zP) (a1 : Int) (a2 : Int) (a3 : Int) (a4 : Int) : Option Int :=
(p_X0_in a1 1 9).bind fun v1 =>
if v1 = 0 then (some ((-1)))
else ((p_X0_in a3 1 12).bind fun v2 =>
if v2 = 0 then (some ((-1)))
else ((p_X0_in a2 0 a3).bind fun v3 =>
if v3 = 0 then (some ((-1)))
else ((zLoop (pb_X0_near_42 a1 a2 a3) zFuel (0, 0, 0)).bind fun (w5, w6) =>
(p_X0_part w5 w6 a4).bind fun w25 =>
some (w25))))
set_option maxHeartbeats 4000000 in
theorem rf_X0_near {g : zGd} {M : Nat} {m0 : zMm} (hL : pLC g (zR m0) M) {m : zMm} (hm : pOk (bC M) m0 m) {pa1 : Int} {a1 : Int32} (ea1 : pa1 = a1.toInt) {pa2 : Int} {a2 : Int32} (ea2 : pa2 = a2.toInt) {pa3 : Int} {a3 : Int32} (ea3 : pa3 = a3.toInt) {pa4 : Int} {a4 : Int32} (ea4 : pa4 = a4.toInt) : pRf qJ (p_X0_near (pI (bC M) m) pa1 pa2 pa3 pa4) (f_X0_near g m (some ((bC M).1 + 0)) a1 a2 a3 a4) := by
  subst ea1
  subst ea2
  subst ea3
  subst ea4
  unfold p_X0_near f_X0_near
  refine r_bind (A := qI) (rf_X0_in rfl (eI (1 : Int32) (by decide)) (eI (9 : Int32) (by decide))) ?_
  rintro pv1 v1 ev1
  change pv1 = v1.toInt at ev1; subst ev1
  refine r_ite (pc_eq rfl (eI (0 : Int32) (by decide))) ?_ ?_
  · exact r_some (qJ_i (eJ (-1 : Int64) (by decide)))
  · refine r_bind (A := qI) (rf_X0_in rfl (eI (1 : Int32) (by decide)) (eI (12 : Int32) (by decide))) ?_
    rintro pv2 v2 ev2
    change pv2 = v2.toInt at ev2; subst ev2
    refine r_ite (pc_eq rfl (eI (0 : Int32) (by decide))) ?_ ?_
    · exact r_some (qJ_i (eJ (-1 : Int64) (by decide)))
    · refine r_bind (A := qI) (rf_X0_in rfl (eI (0 : Int32) (by decide)) rfl) ?_
      rintro pv3 v3 ev3
      change pv3 = v3.toInt at ev3; subst ev3
      refine r_ite (pc_eq rfl (eI (0 : Int32) (by decide))) ?_ ?_
      · exact r_some (qJ_i (eJ (-1 : Int64) (by decide)))
      · refine r_bind (A := (qP qJ qJ)) (r_loop (rb_X0_near_42 rfl rfl rfl) zFuel _ _ (qP_i (qJ_i (eJ (0 : Int64) (by decide))) (qP_i (qJ_i (eJ (0 : Int64) (by decide))) (qI_i (eI (0 : Int32) (by decide)))))) ?_
        rintro ⟨pw5, pw6⟩ ⟨w5, w6⟩ ⟨ew5, ew6⟩
        change pw5 = w5.toInt at ew5; subst ew5
        change pw6 = w6.toInt at ew6; subst ew6
        refine r_bind (A := qJ) (rf_X0_part rfl rfl rfl) ?_
        rintro pw25 w25 ew25
        change pw25 = w25.toInt at ew25; subst ew25
        exact r_some (qJ_i rfl)
def qp_X0_sixesOf (rec : Int → Option Int) (a0 : Int) : Option Int :=
if a0 = 0 then (some (0))
else (zlt (pdv a0 10) fun x1 =>
(rec x1).bind fun v1 =>
p32 ((6 * v1) + (prm a0 10)) fun x2 =>
some (x2))
set_option maxHeartbeats 4000000 in
theorem rq_X0_sixesOf {rec : Int → Option Int} {rec' : Int32 → Option (Int32)} (hrec : ∀ {pa0 : Int} {a0 : Int32} (_ : pa0 = a0.toInt), pRf qI (rec pa0) (rec' a0)) {pa0 : Int} {a0 : Int32} (ea0 : pa0 = a0.toInt) : pRf qI (qp_X0_sixesOf rec pa0) (q_X0_sixesOf rec' a0) := by
  subst ea0
  unfold qp_X0_sixesOf q_X0_sixesOf
  refine r_ite (pc_eq rfl (eI (0 : Int32) (by decide))) ?_ ?_
  · exact r_some (qI_i (eI (0 : Int32) (by decide)))
  · refine r_x32 (pe_dv (by decide) rfl (eI (10 : Int32) (by decide))) ?_
    refine r_bind (A := qI) (hrec rfl) ?_
    rintro pv1 v1 ev1
    change pv1 = v1.toInt at ev1; subst ev1
    refine r_p32 (px_add (px_mul (px_n (6 : Int32) (by decide)) (px_v _)) (px_e (pe_rm (by decide) rfl (eI (10 : Int32) (by decide))))) ?_
    exact r_some (qI_i rfl)
def rp_sixes : Nat → Int → Option Int
  | 0 => fun _ => none
  | d + 1 => qp_X0_sixesOf (rp_sixes d)
set_option maxHeartbeats 4000000 in
theorem rr_sixes : ∀ (d : Nat) {x : Int} {a : Int32} (_ : x = a.toInt), pRf qI (rp_sixes d x) (r_sixes d a)
  | 0, _, _, _ => r_none
  | d + 1, _, _, h1 => rq_X0_sixesOf (fun h1 => rr_sixes d h1) h1
def p_X0_sixesOf (a1 : Int) : Option Int := rp_sixes 20 a1
set_option maxHeartbeats 4000000 in
theorem rf_X0_sixesOf {x : Int} {a : Int32} (h1 : x = a.toInt) : pRf qI (p_X0_sixesOf x) (f_X0_sixesOf a) := rr_sixes 20 h1
def pb_X0_bitten_10 (a0 : Int) (a1 : Int) (a2 : Int) : (Int × (Int × Int)) → Option (Int ⊕ (Int × (Int × Int))) := fun (v4, v5, v6) =>
if 5 ≤ v6 then (some (.inl v4))
else ((pdiv a0 v5).bind fun v7 =>
zlt (prm v7 10) fun v8 =>
((if a1 ≤ v6 then ((p_J7_min v8 a2).bind fun v11 =>
some (v11))
else (some (v8)) : Option Int)).bind fun v10 =>
p32 (v4 + (v5 * v10)) fun v12 =>
zlt (pdv v5 10) fun v13 =>
p32 (v6 + 1) fun v14 =>
some (.inr (v12, v13, v14)))
set_option maxHeartbeats 4000000 in
theorem rb_X0_bitten_10 {pa0 : Int} {a0 : Int32} (ea0 : pa0 = a0.toInt) {pa1 : Int} {a1 : Int32} (ea1 : pa1 = a1.toInt) {pa2 : Int} {a2 : Int32} (ea2 : pa2 = a2.toInt) : ∀ s t, (qP qI (qP qI qI)) s t → pRf (qS qI (qP qI (qP qI qI))) (pb_X0_bitten_10 pa0 pa1 pa2 s) (b_X0_bitten_10 a0 a1 a2 t) := by
  subst ea0
  subst ea1
  subst ea2
  rintro ⟨pv4, pv5, pv6⟩ ⟨v4, v5, v6⟩ ⟨ev4, ev5, ev6⟩
  change pv4 = v4.toInt at ev4; subst ev4
  change pv5 = v5.toInt at ev5; subst ev5
  change pv6 = v6.toInt at ev6; subst ev6
  unfold pb_X0_bitten_10 b_X0_bitten_10
  try dsimp only
  refine r_ite (pc_le (eI (5 : Int32) (by decide)) rfl) ?_ ?_
  · exact r_some (qS_l (qI_i rfl))
  · refine r_div rfl rfl (fun v7 => ?_)
    refine r_ltx (pe_rm (by decide) rfl (eI (10 : Int32) (by decide))) (fun v8 => ?_)
    refine r_bind (A := qI) ?_ ?_
    · refine r_ite (pc_le rfl rfl) ?_ ?_
      · refine r_bind (A := qI) (rf_J7_min rfl rfl) ?_
        rintro pv11 v11 ev11
        change pv11 = v11.toInt at ev11; subst ev11
        exact r_some (qI_i rfl)
      · exact r_some (qI_i rfl)
    rintro pv10 v10 ev10
    change pv10 = v10.toInt at ev10; subst ev10
    refine r_lt32 (px_add (px_v _) (px_mul (px_v _) (px_v _))) (fun v12 => ?_)
    refine r_ltx (pe_dv (by decide) rfl (eI (10 : Int32) (by decide))) (fun v13 => ?_)
    refine r_lt32 (px_add (px_v _) (px_n (1 : Int32) (by decide))) (fun v14 => ?_)
    exact r_some (qS_r (qP_i (qI_i rfl) (qP_i (qI_i rfl) (qI_i rfl))))
def p_X0_bitten (a0 : Int) (a1 : Int) (a2 : Int) : Option Int :=
(zLoop (pb_X0_bitten_10 a0 a1 a2) zFuel (0, 10000, 0)).bind fun v2 =>
some (v2)
set_option maxHeartbeats 4000000 in
theorem rf_X0_bitten {pa0 : Int} {a0 : Int32} (ea0 : pa0 = a0.toInt) {pa1 : Int} {a1 : Int32} (ea1 : pa1 = a1.toInt) {pa2 : Int} {a2 : Int32} (ea2 : pa2 = a2.toInt) : pRf qI (p_X0_bitten pa0 pa1 pa2) (f_X0_bitten a0 a1 a2) := by
  subst ea0
  subst ea1
  subst ea2
  unfold p_X0_bitten f_X0_bitten
  refine r_bind (A := qI) (r_loop (rb_X0_bitten_10 rfl rfl rfl) zFuel _ _ (qP_i (qI_i (eI (0 : Int32) (by decide))) (qP_i (qI_i (eI (10000 : Int32) (by decide))) (qI_i (eI (0 : Int32) (by decide)))))) ?_
  rintro pv2 v2 ev2
  change pv2 = v2.toInt at ev2; subst ev2
  exact r_some (qI_i rfl)
def pb_X0_wideOf_4  : (Int × Int) → Option (Int ⊕ (Int × Int)) := fun (v4, v5) =>
if 4 ≤ v5 then (some (.inl v4))
else (zlt (pdv v4 10) fun v6 =>
p32 (v5 + 1) fun v7 =>
some (.inr (v6, v7)))
set_option maxHeartbeats 4000000 in
theorem rb_X0_wideOf_4  : ∀ s t, (qP qI qI) s t → pRf (qS qI (qP qI qI)) (pb_X0_wideOf_4 s) (b_X0_wideOf_4 t) := by
  rintro ⟨pv4, pv5⟩ ⟨v4, v5⟩ ⟨ev4, ev5⟩
  change pv4 = v4.toInt at ev4; subst ev4
  change pv5 = v5.toInt at ev5; subst ev5
  unfold pb_X0_wideOf_4 b_X0_wideOf_4
  try dsimp only
  refine r_ite (pc_le (eI (4 : Int32) (by decide)) rfl) ?_ ?_
  · exact r_some (qS_l (qI_i rfl))
  · refine r_ltx (pe_dv (by decide) rfl (eI (10 : Int32) (by decide))) (fun v6 => ?_)
    refine r_lt32 (px_add (px_v _) (px_n (1 : Int32) (by decide))) (fun v7 => ?_)
    exact r_some (qS_r (qP_i (qI_i rfl) (qI_i rfl)))
def p_X0_wideOf (a0 : Int) (a1 : Int) : Option Int :=
(zLoop pb_X0_wideOf_4 zFuel (a0, a1)).bind fun v2 =>
zlt (prm v2 10) fun x1 =>
some (x1)
set_option maxHeartbeats 4000000 in
theorem rf_X0_wideOf {pa0 : Int} {a0 : Int32} (ea0 : pa0 = a0.toInt) {pa1 : Int} {a1 : Int32} (ea1 : pa1 = a1.toInt) : pRf qI (p_X0_wideOf pa0 pa1) (f_X0_wideOf a0 a1) := by
  subst ea0
  subst ea1
  unfold p_X0_wideOf f_X0_wideOf
  refine r_bind (A := qI) (r_loop rb_X0_wideOf_4 zFuel _ _ (qP_i (qI_i rfl) (qI_i rfl))) ?_
  rintro pv2 v2 ev2
  change pv2 = v2.toInt at ev2; subst ev2
  refine r_x32 (pe_rm (by decide) rfl (eI (10 : Int32) (by decide))) ?_
  exact r_some (qI_i rfl)
def qp_X0_wins (rec : (zP → Int → Option (Int × zP)) × (zP → Int → Option (Int × zP))) (S : zP) (a1 : Int) : Option (Int × zP) :=
(p_X0_sixesOf a1).bind fun v1 =>
(pald S 150 7776 v1).bind fun v3 =>
((if v3 = 0 then ((rec.2 S a1).bind fun (v7, S8) =>
if v7 = (-1) then (zlt (pi2b 1) fun x1 =>
zlt (pnb x1) fun x2 =>
(past S8 150 7776 v1 x2).bind fun S10 =>
some (S10))
else (zlt (pi2b 2) fun x3 =>
zlt (pnb x3) fun x4 =>
(past S8 150 7776 v1 x4).bind fun S9 =>
some (S9)))
else (some (S)) : Option zP)).bind fun S5 =>
(pald S5 150 7776 v1).bind fun v12 =>
if v12 = 2 then (some ((1, S5)))
else (some ((0, S5)))
set_option maxHeartbeats 4000000 in
theorem rq_X0_wins {g : zGd} {M : Nat} {m0 : zMm} (hL : pLC g (zR m0) M) {rec : (zP → Int → Option (Int × zP)) × (zP → Int → Option (Int × zP))} {rec' : (zGd → zMm → Option Nat → Int32 → Option (Int32 × zMm)) × (zGd → zMm → Option Nat → Int32 → Option (Int32 × zMm))} (hrec1 : ∀ {m : zMm} (_ : pOk (bD M) m0 m) {pa1 : Int} {a1 : Int32} (_ : pa1 = a1.toInt), pRf (qP qI (qM (bD M) m0)) (rec.1 (pI (bD M) m) pa1) (rec'.1 g m (some ((bD M).1 + 0)) a1)) (hrec2 : ∀ {m : zMm} (_ : pOk (bD M) m0 m) {pa1 : Int} {a1 : Int32} (_ : pa1 = a1.toInt), pRf (qP qI (qM (bD M) m0)) (rec.2 (pI (bD M) m) pa1) (rec'.2 g m (some ((bD M).1 + 0)) a1)) {m : zMm} (hm : pOk (bD M) m0 m) {pa1 : Int} {a1 : Int32} (ea1 : pa1 = a1.toInt) : pRf (qP qI (qM (bD M) m0)) (qp_X0_wins rec (pI (bD M) m) pa1) (q_X0_wins rec' g m (some ((bD M).1 + 0)) a1) := by
  subst ea1
  unfold qp_X0_wins q_X0_wins
  refine r_bind (A := qI) (rf_X0_sixesOf rfl) ?_
  rintro pv1 v1 ev1
  change pv1 = v1.toInt at ev1; subst ev1
  refine r_gr (d := 150) hm (lc_o hL) (lc_f20 hL) ?_
  refine r_ald (lc_k150 hL) rfl (fun _ => rfl) (fun v3 => ?_)
  refine r_bind (A := (qM (bD M) m0)) ?_ ?_
  · refine r_ite (pc_eq rfl (eI (0 : Int32) (by decide))) ?_ ?_
    · refine r_gr (d := 150) hm (lc_o hL) (lc_f20 hL) ?_
      refine r_bind (A := (qP qI (qM (bD M) m0))) (r_rc (B := (bD M)) (c := 0) (lc_o hL) (hrec2 hm rfl)) ?_
      rintro ⟨pv7, S8⟩ ⟨v7, m8⟩ ⟨ev7, ⟨em8, hm8⟩⟩
      change pv7 = v7.toInt at ev7; subst ev7
      change S8 = pI (bD M) m8 at em8; subst em8
      refine r_ite (pc_eq rfl (eI (-1 : Int32) (by decide))) ?_ ?_
      · refine r_x32 (pe_i2b (eI (1 : Int32) (by decide))) ?_
        refine r_x32 (pe_nb rfl) ?_
        refine r_ast hm8 (lc_k150 hL) hL.1 (wD (by omega)) rfl rfl (fun _ => rfl) (fun m10 hm10 => ?_)
        exact r_some (qM_i hm10)
      · refine r_x32 (pe_i2b (eI (2 : Int32) (by decide))) ?_
        refine r_x32 (pe_nb rfl) ?_
        refine r_ast hm8 (lc_k150 hL) hL.1 (wD (by omega)) rfl rfl (fun _ => rfl) (fun m9 hm9 => ?_)
        exact r_some (qM_i hm9)
    · exact r_some (qM_i hm)
  rintro S5 m5 ⟨em5, hm5⟩
  change S5 = pI (bD M) m5 at em5; subst em5
  refine r_gr (d := 150) hm5 (lc_o hL) (lc_f20 hL) ?_
  refine r_ald (lc_k150 hL) rfl (fun _ => rfl) (fun v12 => ?_)
  refine r_ite (pc_eq rfl (eI (2 : Int32) (by decide))) ?_ ?_
  · exact r_some (qP_i (qI_i (eI (1 : Int32) (by decide))) (qM_i hm5))
  · exact r_some (qP_i (qI_i (eI (0 : Int32) (by decide))) (qM_i hm5))
def pb_X0_biteOf_9 (rec : (zP → Int → Option (Int × zP)) × (zP → Int → Option (Int × zP))) (a1 : Int) (v4 : Int) : (Int × zP) → Option (((((Int × zP) ⊕ zP) ⊕ (Int × zP)) ⊕ zP) ⊕ (Int × zP)) := fun (v9, S10) =>
(p_X0_wideOf a1 v4).bind fun v11 =>
if v11 ≤ v9 then (some (.inl (.inr S10)))
else (p32 (v4 + v9) fun x1 =>
if x1 ≤ 0 then (p32 (v9 + 1) fun v12 =>
some (.inr (v12, S10)))
else ((p_X0_bitten a1 v4 v9).bind fun v13 =>
(rec.1 S10 v13).bind fun (v14, S15) =>
if v14 = 0 then (p32 ((10 * v4) + v9) fun x2 =>
some (.inl (.inl (.inl (.inl (x2, S15))))))
else (p32 (v9 + 1) fun v16 =>
some (.inr (v16, S15)))))
set_option maxHeartbeats 4000000 in
theorem rb_X0_biteOf_9 {g : zGd} {M : Nat} {m0 : zMm} (hL : pLC g (zR m0) M) {rec : (zP → Int → Option (Int × zP)) × (zP → Int → Option (Int × zP))} {rec' : (zGd → zMm → Option Nat → Int32 → Option (Int32 × zMm)) × (zGd → zMm → Option Nat → Int32 → Option (Int32 × zMm))} (hrec1 : ∀ {m : zMm} (_ : pOk (bD M) m0 m) {pa1 : Int} {a1 : Int32} (_ : pa1 = a1.toInt), pRf (qP qI (qM (bD M) m0)) (rec.1 (pI (bD M) m) pa1) (rec'.1 g m (some ((bD M).1 + 0)) a1)) (hrec2 : ∀ {m : zMm} (_ : pOk (bD M) m0 m) {pa1 : Int} {a1 : Int32} (_ : pa1 = a1.toInt), pRf (qP qI (qM (bD M) m0)) (rec.2 (pI (bD M) m) pa1) (rec'.2 g m (some ((bD M).1 + 0)) a1)) {pa1 : Int} {a1 : Int32} (ea1 : pa1 = a1.toInt) {pv4 : Int} {v4 : Int32} (ev4 : pv4 = v4.toInt) : ∀ s t, (qP qI (qM (bD M) m0)) s t → pRf (qS (qS (qS (qS (qP qI (qM (bD M) m0)) (qM (bD M) m0)) (qP qI (qM (bD M) m0))) (qM (bD M) m0)) (qP qI (qM (bD M) m0))) (pb_X0_biteOf_9 rec pa1 pv4 s) (b_X0_biteOf_9 g rec' (some ((bD M).1 + 0)) a1 v4 t) := by
  subst ea1
  subst ev4
  rintro ⟨pv9, S10⟩ ⟨v9, m10⟩ ⟨ev9, ⟨em10, hm10⟩⟩
  change pv9 = v9.toInt at ev9; subst ev9
  change S10 = pI (bD M) m10 at em10; subst em10
  unfold pb_X0_biteOf_9 b_X0_biteOf_9
  try dsimp only
  refine r_bind (A := qI) (rf_X0_wideOf rfl rfl) ?_
  rintro pv11 v11 ev11
  change pv11 = v11.toInt at ev11; subst ev11
  refine r_ite (pc_le rfl rfl) ?_ ?_
  · exact r_some (qS_l (qS_r (qM_i hm10)))
  · refine r_p32 (px_add (px_v _) (px_v _)) ?_
    refine r_ite (pc_le rfl (eI (0 : Int32) (by decide))) ?_ ?_
    · refine r_lt32 (px_add (px_v _) (px_n (1 : Int32) (by decide))) (fun v12 => ?_)
      exact r_some (qS_r (qP_i (qI_i rfl) (qM_i hm10)))
    · refine r_bind (A := qI) (rf_X0_bitten rfl rfl rfl) ?_
      rintro pv13 v13 ev13
      change pv13 = v13.toInt at ev13; subst ev13
      refine r_bind (A := (qP qI (qM (bD M) m0))) (r_rc (B := (bD M)) (c := 0) (lc_o hL) (hrec1 hm10 rfl)) ?_
      rintro ⟨pv14, S15⟩ ⟨v14, m15⟩ ⟨ev14, ⟨em15, hm15⟩⟩
      change pv14 = v14.toInt at ev14; subst ev14
      change S15 = pI (bD M) m15 at em15; subst em15
      refine r_ite (pc_eq rfl (eI (0 : Int32) (by decide))) ?_ ?_
      · refine r_p32 (px_add (px_mul (px_n (10 : Int32) (by decide)) (px_v _)) (px_v _)) ?_
        exact r_some (qS_l (qS_l (qS_l (qS_l (qP_i (qI_i rfl) (qM_i hm15))))))
      · refine r_lt32 (px_add (px_v _) (px_n (1 : Int32) (by decide))) (fun v16 => ?_)
        exact r_some (qS_r (qP_i (qI_i rfl) (qM_i hm15)))
def pb_X0_biteOf_2 (rec : (zP → Int → Option (Int × zP)) × (zP → Int → Option (Int × zP))) (a1 : Int) : (Int × zP) → Option (((Int × zP) ⊕ zP) ⊕ (Int × zP)) := fun (v4, S5) =>
if 5 ≤ v4 then (some (.inl (.inr S5)))
else (zEx (σ := zP) (zLoop (pb_X0_biteOf_9 rec a1 v4) zFuel (0, S5)) fun S7 =>
p32 (v4 + 1) fun v17 =>
some (.inr (v17, S7)))
set_option maxHeartbeats 4000000 in
theorem rb_X0_biteOf_2 {g : zGd} {M : Nat} {m0 : zMm} (hL : pLC g (zR m0) M) {rec : (zP → Int → Option (Int × zP)) × (zP → Int → Option (Int × zP))} {rec' : (zGd → zMm → Option Nat → Int32 → Option (Int32 × zMm)) × (zGd → zMm → Option Nat → Int32 → Option (Int32 × zMm))} (hrec1 : ∀ {m : zMm} (_ : pOk (bD M) m0 m) {pa1 : Int} {a1 : Int32} (_ : pa1 = a1.toInt), pRf (qP qI (qM (bD M) m0)) (rec.1 (pI (bD M) m) pa1) (rec'.1 g m (some ((bD M).1 + 0)) a1)) (hrec2 : ∀ {m : zMm} (_ : pOk (bD M) m0 m) {pa1 : Int} {a1 : Int32} (_ : pa1 = a1.toInt), pRf (qP qI (qM (bD M) m0)) (rec.2 (pI (bD M) m) pa1) (rec'.2 g m (some ((bD M).1 + 0)) a1)) {pa1 : Int} {a1 : Int32} (ea1 : pa1 = a1.toInt) : ∀ s t, (qP qI (qM (bD M) m0)) s t → pRf (qS (qS (qP qI (qM (bD M) m0)) (qM (bD M) m0)) (qP qI (qM (bD M) m0))) (pb_X0_biteOf_2 rec pa1 s) (b_X0_biteOf_2 g rec' (some ((bD M).1 + 0)) a1 t) := by
  subst ea1
  rintro ⟨pv4, S5⟩ ⟨v4, m5⟩ ⟨ev4, ⟨em5, hm5⟩⟩
  change pv4 = v4.toInt at ev4; subst ev4
  change S5 = pI (bD M) m5 at em5; subst em5
  unfold pb_X0_biteOf_2 b_X0_biteOf_2
  try dsimp only
  refine r_ite (pc_le (eI (5 : Int32) (by decide)) rfl) ?_ ?_
  · exact r_some (qS_l (qS_r (qM_i hm5)))
  · refine r_ex (Q := (qS (qS (qP qI (qM (bD M) m0)) (qM (bD M) m0)) (qP qI (qM (bD M) m0)))) (R := (qM (bD M) m0)) ?_ ?_
    · exact (r_loop (rb_X0_biteOf_9 hL hrec1 hrec2 rfl rfl) zFuel _ _ (qP_i (qI_i (eI (0 : Int32) (by decide))) (qM_i hm5)))
    rintro S7 m7 ⟨em7, hm7⟩
    change S7 = pI (bD M) m7 at em7; subst em7
    refine r_lt32 (px_add (px_v _) (px_n (1 : Int32) (by decide))) (fun v17 => ?_)
    exact r_some (qS_r (qP_i (qI_i rfl) (qM_i hm7)))
def qp_X0_biteOf (rec : (zP → Int → Option (Int × zP)) × (zP → Int → Option (Int × zP))) (S : zP) (a1 : Int) : Option (Int × zP) :=
zEx (σ := zP) (zLoop (pb_X0_biteOf_2 rec a1) zFuel (0, S)) fun S2 =>
some (((-1), S2))
set_option maxHeartbeats 4000000 in
theorem rq_X0_biteOf {g : zGd} {M : Nat} {m0 : zMm} (hL : pLC g (zR m0) M) {rec : (zP → Int → Option (Int × zP)) × (zP → Int → Option (Int × zP))} {rec' : (zGd → zMm → Option Nat → Int32 → Option (Int32 × zMm)) × (zGd → zMm → Option Nat → Int32 → Option (Int32 × zMm))} (hrec1 : ∀ {m : zMm} (_ : pOk (bD M) m0 m) {pa1 : Int} {a1 : Int32} (_ : pa1 = a1.toInt), pRf (qP qI (qM (bD M) m0)) (rec.1 (pI (bD M) m) pa1) (rec'.1 g m (some ((bD M).1 + 0)) a1)) (hrec2 : ∀ {m : zMm} (_ : pOk (bD M) m0 m) {pa1 : Int} {a1 : Int32} (_ : pa1 = a1.toInt), pRf (qP qI (qM (bD M) m0)) (rec.2 (pI (bD M) m) pa1) (rec'.2 g m (some ((bD M).1 + 0)) a1)) {m : zMm} (hm : pOk (bD M) m0 m) {pa1 : Int} {a1 : Int32} (ea1 : pa1 = a1.toInt) : pRf (qP qI (qM (bD M) m0)) (qp_X0_biteOf rec (pI (bD M) m) pa1) (q_X0_biteOf rec' g m (some ((bD M).1 + 0)) a1) := by
  subst ea1
  unfold qp_X0_biteOf q_X0_biteOf
  refine r_ex (Q := (qP qI (qM (bD M) m0))) (R := (qM (bD M) m0)) ?_ ?_
  · exact (r_loop (rb_X0_biteOf_2 hL hrec1 hrec2 rfl) zFuel _ _ (qP_i (qI_i (eI (0 : Int32) (by decide))) (qM_i hm)))
  rintro S2 m2 ⟨em2, hm2⟩
  change S2 = pI (bD M) m2 at em2; subst em2
  exact r_some (qP_i (qI_i (eI (-1 : Int32) (by decide))) (qM_i hm2))
def rp_wins : Nat → (zP → Int → Option (Int × zP)) × (zP → Int → Option (Int × zP))
  | 0 => (fun _ _ => none, fun _ _ => none)
  | d + 1 => (qp_X0_wins (rp_wins d), qp_X0_biteOf (rp_wins d))
set_option maxHeartbeats 4000000 in
theorem rr_wins {g : zGd} {M : Nat} {m0 : zMm} (hL : pLC g (zR m0) M) : ∀ (d : Nat), (∀ {m : zMm} (_ : pOk (bD M) m0 m) {x : Int} {a : Int32} (_ : x = a.toInt), pRf (qP qI (qM (bD M) m0)) ((rp_wins d).1 (pI (bD M) m) x) ((r_wins d).1 g m (some ((bD M).1 + 0)) a)) ∧ (∀ {m : zMm} (_ : pOk (bD M) m0 m) {x : Int} {a : Int32} (_ : x = a.toInt), pRf (qP qI (qM (bD M) m0)) ((rp_wins d).2 (pI (bD M) m) x) ((r_wins d).2 g m (some ((bD M).1 + 0)) a))
  | 0 => ⟨fun _ => fun _ => r_none, fun _ => fun _ => r_none⟩
  | d + 1 => ⟨fun hm => fun h => rq_X0_wins hL (rr_wins hL d).1 (rr_wins hL d).2 hm h, fun hm => fun h => rq_X0_biteOf hL (rr_wins hL d).1 (rr_wins hL d).2 hm h⟩
def p_X0_wins (S : zP) (a1 : Int) : Option (Int × zP) := (rp_wins 70).1 S a1
def p_X0_biteOf (S : zP) (a1 : Int) : Option (Int × zP) := (rp_wins 70).2 S a1
set_option maxHeartbeats 4000000 in
theorem rf_X0_wins {g : zGd} {M : Nat} {m0 : zMm} (hL : pLC g (zR m0) M) {m : zMm} (hm : pOk (bD M) m0 m) {x : Int} {a : Int32} (h1 : x = a.toInt) : pRf (qP qI (qM (bD M) m0)) (p_X0_wins (pI (bD M) m) x) (f_X0_wins g m (some ((bD M).1 + 0)) a) := (rr_wins hL 70).1 hm h1
set_option maxHeartbeats 4000000 in
theorem rf_X0_biteOf {g : zGd} {M : Nat} {m0 : zMm} (hL : pLC g (zR m0) M) {m : zMm} (hm : pOk (bD M) m0 m) {x : Int} {a : Int32} (h1 : x = a.toInt) : pRf (qP qI (qM (bD M) m0)) (p_X0_biteOf (pI (bD M) m) x) (f_X0_biteOf g m (some ((bD M).1 + 0)) a) := (rr_wins hL 70).2 hm h1
def pb_X0_game_25 (a1 : Int) (a2 : Int) : (Int × Int) → Option (Int ⊕ (Int × Int)) := fun (v6, v7) =>
if 5 ≤ v7 then (some (.inl v6))
else (if a1 ≤ v7 then (p32 ((10 * v6) + 0) fun v8 =>
p32 (v7 + 1) fun v9 =>
some (.inr (v8, v9)))
else (p32 ((10 * v6) + a2) fun v10 =>
p32 (v7 + 1) fun v11 =>
some (.inr (v10, v11))))
set_option maxHeartbeats 4000000 in
theorem rb_X0_game_25 {pa1 : Int} {a1 : Int32} (ea1 : pa1 = a1.toInt) {pa2 : Int} {a2 : Int32} (ea2 : pa2 = a2.toInt) : ∀ s t, (qP qI qI) s t → pRf (qS qI (qP qI qI)) (pb_X0_game_25 pa1 pa2 s) (b_X0_game_25 a1 a2 t) := by
  subst ea1
  subst ea2
  rintro ⟨pv6, pv7⟩ ⟨v6, v7⟩ ⟨ev6, ev7⟩
  change pv6 = v6.toInt at ev6; subst ev6
  change pv7 = v7.toInt at ev7; subst ev7
  unfold pb_X0_game_25 b_X0_game_25
  try dsimp only
  refine r_ite (pc_le (eI (5 : Int32) (by decide)) rfl) ?_ ?_
  · exact r_some (qS_l (qI_i rfl))
  · refine r_ite (pc_le rfl rfl) ?_ ?_
    · refine r_lt32 (px_add (px_mul (px_n (10 : Int32) (by decide)) (px_v _)) (px_n (0 : Int32) (by decide))) (fun v8 => ?_)
      refine r_lt32 (px_add (px_v _) (px_n (1 : Int32) (by decide))) (fun v9 => ?_)
      exact r_some (qS_r (qP_i (qI_i rfl) (qI_i rfl)))
    · refine r_lt32 (px_add (px_mul (px_n (10 : Int32) (by decide)) (px_v _)) (px_v _)) (fun v10 => ?_)
      refine r_lt32 (px_add (px_v _) (px_n (1 : Int32) (by decide))) (fun v11 => ?_)
      exact r_some (qS_r (qP_i (qI_i rfl) (qI_i rfl)))
def p_X0_game (S : zP) (a1 : Int) (a2 : Int) : Option (Int × zP) :=
(p_X0_in a1 1 5).bind fun v1 =>
if v1 = 0 then (some (((-1), S)))
else ((p_X0_in a2 1 5).bind fun v2 =>
if v2 = 0 then (some (((-1), S)))
else ((zLoop (pb_X0_game_25 a1 a2) zFuel (0, 0)).bind fun v4 =>
(p_X0_wins S v4).bind fun (v12, S13) =>
if v12 = 0 then (some ((0, S13)))
else (some ((1, S13)))))
set_option maxHeartbeats 4000000 in
theorem rf_X0_game {g : zGd} {M : Nat} {m0 : zMm} (hL : pLC g (zR m0) M) {m : zMm} (hm : pOk (bD M) m0 m) {pa1 : Int} {a1 : Int32} (ea1 : pa1 = a1.toInt) {pa2 : Int} {a2 : Int32} (ea2 : pa2 = a2.toInt) : pRf (qP qI (qM (bD M) m0)) (p_X0_game (pI (bD M) m) pa1 pa2) (f_X0_game g m (some ((bD M).1 + 0)) a1 a2) := by
  subst ea1
  subst ea2
  unfold p_X0_game f_X0_game
  refine r_bind (A := qI) (rf_X0_in rfl (eI (1 : Int32) (by decide)) (eI (5 : Int32) (by decide))) ?_
  rintro pv1 v1 ev1
  change pv1 = v1.toInt at ev1; subst ev1
  refine r_ite (pc_eq rfl (eI (0 : Int32) (by decide))) ?_ ?_
  · exact r_some (qP_i (qI_i (eI (-1 : Int32) (by decide))) (qM_i hm))
  · refine r_bind (A := qI) (rf_X0_in rfl (eI (1 : Int32) (by decide)) (eI (5 : Int32) (by decide))) ?_
    rintro pv2 v2 ev2
    change pv2 = v2.toInt at ev2; subst ev2
    refine r_ite (pc_eq rfl (eI (0 : Int32) (by decide))) ?_ ?_
    · exact r_some (qP_i (qI_i (eI (-1 : Int32) (by decide))) (qM_i hm))
    · refine r_bind (A := qI) (r_loop (rb_X0_game_25 rfl rfl) zFuel _ _ (qP_i (qI_i (eI (0 : Int32) (by decide))) (qI_i (eI (0 : Int32) (by decide))))) ?_
      rintro pv4 v4 ev4
      change pv4 = v4.toInt at ev4; subst ev4
      refine r_bind (A := (qP qI (qM (bD M) m0))) (r_rc (B := (bD M)) (c := 0) (lc_o hL) (rf_X0_wins hL hm rfl)) ?_
      rintro ⟨pv12, S13⟩ ⟨v12, m13⟩ ⟨ev12, ⟨em13, hm13⟩⟩
      change pv12 = v12.toInt at ev12; subst ev12
      change S13 = pI (bD M) m13 at em13; subst em13
      refine r_ite (pc_eq rfl (eI (0 : Int32) (by decide))) ?_ ?_
      · exact r_some (qP_i (qI_i (eI (0 : Int32) (by decide))) (qM_i hm13))
      · exact r_some (qP_i (qI_i (eI (1 : Int32) (by decide))) (qM_i hm13))
def pb_X0_isShape_19 (a0 : Int) : (Int × Int) → Option ((Int ⊕ Unit) ⊕ (Int × Int)) := fun (v4, v5) =>
if 5 ≤ v5 then (some (.inl (.inr ())))
else ((p_X0_wideOf a0 v5).bind fun v6 =>
if v6 ≤ v4 then ((p_X0_wideOf a0 v5).bind fun v7 =>
p32 (v5 + 1) fun v8 =>
some (.inr (v7, v8)))
else (some (.inl (.inl 0))))
set_option maxHeartbeats 4000000 in
theorem rb_X0_isShape_19 {pa0 : Int} {a0 : Int32} (ea0 : pa0 = a0.toInt) : ∀ s t, (qP qI qI) s t → pRf (qS (qS qI qU) (qP qI qI)) (pb_X0_isShape_19 pa0 s) (b_X0_isShape_19 a0 t) := by
  subst ea0
  rintro ⟨pv4, pv5⟩ ⟨v4, v5⟩ ⟨ev4, ev5⟩
  change pv4 = v4.toInt at ev4; subst ev4
  change pv5 = v5.toInt at ev5; subst ev5
  unfold pb_X0_isShape_19 b_X0_isShape_19
  try dsimp only
  refine r_ite (pc_le (eI (5 : Int32) (by decide)) rfl) ?_ ?_
  · exact r_some (qS_l (qS_r qU_i))
  · refine r_bind (A := qI) (rf_X0_wideOf rfl rfl) ?_
    rintro pv6 v6 ev6
    change pv6 = v6.toInt at ev6; subst ev6
    refine r_ite (pc_le rfl rfl) ?_ ?_
    · refine r_bind (A := qI) (rf_X0_wideOf rfl rfl) ?_
      rintro pv7 v7 ev7
      change pv7 = v7.toInt at ev7; subst ev7
      refine r_lt32 (px_add (px_v _) (px_n (1 : Int32) (by decide))) (fun v8 => ?_)
      exact r_some (qS_r (qP_i (qI_i rfl) (qI_i rfl)))
    · exact r_some (qS_l (qS_l (qI_i (eI (0 : Int32) (by decide)))))
def p_X0_isShape (a0 : Int) : Option Int :=
(p_X0_in a0 10000 55555).bind fun v1 =>
if v1 = 0 then (some (0))
else (zEx (σ := Unit) (zLoop (pb_X0_isShape_19 a0) zFuel (5, 0)) fun _ =>
some (1))
set_option maxHeartbeats 4000000 in
theorem rf_X0_isShape {pa0 : Int} {a0 : Int32} (ea0 : pa0 = a0.toInt) : pRf qI (p_X0_isShape pa0) (f_X0_isShape a0) := by
  subst ea0
  unfold p_X0_isShape f_X0_isShape
  refine r_bind (A := qI) (rf_X0_in rfl (eI (10000 : Int32) (by decide)) (eI (55555 : Int32) (by decide))) ?_
  rintro pv1 v1 ev1
  change pv1 = v1.toInt at ev1; subst ev1
  refine r_ite (pc_eq rfl (eI (0 : Int32) (by decide))) ?_ ?_
  · exact r_some (qI_i (eI (0 : Int32) (by decide)))
  · refine r_ex (Q := qI) (R := qU) ?_ ?_
    · exact (r_loop (rb_X0_isShape_19 rfl) zFuel _ _ (qP_i (qI_i (eI (5 : Int32) (by decide))) (qI_i (eI (0 : Int32) (by decide)))))
    rintro _ _ _
    exact r_some (qI_i (eI (1 : Int32) (by decide)))
def p_X0_bite (S : zP) (a1 : Int) (a2 : Int) : Option (Int × zP) :=
(p_X0_isShape a1).bind fun v1 =>
((if v1 = 0 then (some (((-1), S)))
else ((p_X0_biteOf S a1).bind fun (v5, S6) =>
some ((v5, S6))) : Option (Int × zP))).bind fun (v3, S4) =>
if v3 = (-1) then (some (((-1), S4)))
else (if a2 = 0 then (zlt (prm v3 10) fun x1 =>
some ((x1, S4)))
else (zlt (pdv v3 10) fun x2 =>
some ((x2, S4))))
set_option maxHeartbeats 4000000 in
theorem rf_X0_bite {g : zGd} {M : Nat} {m0 : zMm} (hL : pLC g (zR m0) M) {m : zMm} (hm : pOk (bD M) m0 m) {pa1 : Int} {a1 : Int32} (ea1 : pa1 = a1.toInt) {pa2 : Int} {a2 : Int32} (ea2 : pa2 = a2.toInt) : pRf (qP qI (qM (bD M) m0)) (p_X0_bite (pI (bD M) m) pa1 pa2) (f_X0_bite g m (some ((bD M).1 + 0)) a1 a2) := by
  subst ea1
  subst ea2
  unfold p_X0_bite f_X0_bite
  refine r_bind (A := qI) (rf_X0_isShape rfl) ?_
  rintro pv1 v1 ev1
  change pv1 = v1.toInt at ev1; subst ev1
  refine r_bind (A := (qP qI (qM (bD M) m0))) ?_ ?_
  · refine r_ite (pc_eq rfl (eI (0 : Int32) (by decide))) ?_ ?_
    · exact r_some (qP_i (qI_i (eI (-1 : Int32) (by decide))) (qM_i hm))
    · refine r_bind (A := (qP qI (qM (bD M) m0))) (r_rc (B := (bD M)) (c := 0) (lc_o hL) (rf_X0_biteOf hL hm rfl)) ?_
      rintro ⟨pv5, S6⟩ ⟨v5, m6⟩ ⟨ev5, ⟨em6, hm6⟩⟩
      change pv5 = v5.toInt at ev5; subst ev5
      change S6 = pI (bD M) m6 at em6; subst em6
      exact r_some (qP_i (qI_i rfl) (qM_i hm6))
  rintro ⟨pv3, S4⟩ ⟨v3, m4⟩ ⟨ev3, ⟨em4, hm4⟩⟩
  change pv3 = v3.toInt at ev3; subst ev3
  change S4 = pI (bD M) m4 at em4; subst em4
  refine r_ite (pc_eq rfl (eI (-1 : Int32) (by decide))) ?_ ?_
  · exact r_some (qP_i (qI_i (eI (-1 : Int32) (by decide))) (qM_i hm4))
  · refine r_ite (pc_eq rfl (eI (0 : Int32) (by decide))) ?_ ?_
    · refine r_x32 (pe_rm (by decide) rfl (eI (10 : Int32) (by decide))) ?_
      exact r_some (qP_i (qI_i rfl) (qM_i hm4))
    · refine r_x32 (pe_dv (by decide) rfl (eI (10 : Int32) (by decide))) ?_
      exact r_some (qP_i (qI_i rfl) (qM_i hm4))
def p_X0_told (S : zP) (a1 : Int) (a2 : Int) : Option (Int × zP) :=
if a1 = (-1) then ((p_X1_clears S 1 6).bind fun (v12, S13) =>
some ((v12, S13)))
else ((p_X0_isKin S a1).bind fun v1 =>
if v1 = 0 then (some (((-2), S)))
else ((p_X0_in a2 0 10).bind fun v2 =>
if v2 = 0 then (some (((-2), S)))
else ((pald S 2 7 6).bind fun v5 =>
if 8 ≤ v5 then (some (((-2), S)))
else ((p_X1_adds S 1 31 8 2 6 a1 a2).bind fun (v9, S10) =>
some ((v9, S10))))))
set_option maxHeartbeats 4000000 in
theorem rf_X0_told {g : zGd} {M : Nat} {m0 : zMm} (hL : pLC g (zR m0) M) {m : zMm} (hm : pOk (bC M) m0 m) {pa1 : Int} {a1 : Int32} (ea1 : pa1 = a1.toInt) {pa2 : Int} {a2 : Int32} (ea2 : pa2 = a2.toInt) : pRf (qP qI (qM (bC M) m0)) (p_X0_told (pI (bC M) m) pa1 pa2) (f_X0_told g m (some ((bC M).1 + 0)) a1 a2) := by
  subst ea1
  subst ea2
  unfold p_X0_told f_X0_told
  refine r_ite (pc_eq rfl (eI (-1 : Int32) (by decide))) ?_ ?_
  · refine r_gr (d := 1) hm (lc_o hL) (lc_f0 hL) ?_
    refine r_bind (A := (qP qI (qM (bC M) m0))) (r_rc (B := (bC M)) (c := 1) (ls_o (lc_s1 hL)) (rf_X1_clears hL hm (lc_s1 hL) rfl (eI (6 : Int32) (by decide)) (by decide))) ?_
    rintro ⟨pv12, S13⟩ ⟨v12, m13⟩ ⟨ev12, ⟨em13, hm13⟩⟩
    change pv12 = v12.toInt at ev12; subst ev12
    change S13 = pI (bC M) m13 at em13; subst em13
    exact r_some (qP_i (qI_i rfl) (qM_i hm13))
  · refine r_bind (A := qI) (r_rc (B := (bC M)) (c := 0) (lc_o hL) (rf_X0_isKin hL hm rfl)) ?_
    rintro pv1 v1 ev1
    change pv1 = v1.toInt at ev1; subst ev1
    refine r_ite (pc_eq rfl (eI (0 : Int32) (by decide))) ?_ ?_
    · exact r_some (qP_i (qI_i (eI (-2 : Int32) (by decide))) (qM_i hm))
    · refine r_bind (A := qI) (rf_X0_in rfl (eI (0 : Int32) (by decide)) (eI (10 : Int32) (by decide))) ?_
      rintro pv2 v2 ev2
      change pv2 = v2.toInt at ev2; subst ev2
      refine r_ite (pc_eq rfl (eI (0 : Int32) (by decide))) ?_ ?_
      · exact r_some (qP_i (qI_i (eI (-2 : Int32) (by decide))) (qM_i hm))
      · refine r_gr (d := 1) hm (lc_o hL) (lc_f0 hL) ?_
        refine r_gr (d := 2) hm (ls_o (lc_s1 hL)) (ls_f0 (lc_s1 hL)) ?_
        refine r_ald (ls_k1 (lc_s1 hL)) (eI (6 : Int32) (by decide)) (fun _ => rfl) (fun v5 => ?_)
        refine r_ite (pc_le (eI (8 : Int32) (by decide)) rfl) ?_ ?_
        · exact r_some (qP_i (qI_i (eI (-2 : Int32) (by decide))) (qM_i hm))
        · refine r_gr (d := 1) hm (lc_o hL) (lc_f0 hL) ?_
          refine r_gr (d := 1) hm (lc_o hL) (lc_f0 hL) ?_
          refine r_gr (d := 31) hm (ls_o (lc_s1 hL)) (ls_f9 (lc_s1 hL)) ?_
          refine r_bind (A := (qP qI (qM (bC M) m0))) (r_rc (B := (bC M)) (c := 1) (ls_o (lc_s1 hL)) (rf_X1_adds hL hm (lc_s1 hL) rfl (ls_k30 (lc_s1 hL)) (ls_r30 (lc_s1 hL)) (ls_e30 (lc_s1 hL)) (fun _ _ _ => wC (by omega)) (eI (6 : Int32) (by decide)) (by decide) rfl rfl)) ?_
          rintro ⟨pv9, S10⟩ ⟨v9, m10⟩ ⟨ev9, ⟨em10, hm10⟩⟩
          change pv9 = v9.toInt at ev9; subst ev9
          change S10 = pI (bC M) m10 at em10; subst em10
          exact r_some (qP_i (qI_i rfl) (qM_i hm10))
def pb_X0_isLaw_2 (W : pW) (a1 : Option Nat) : (Int × zP) → Option (((Int × zP) ⊕ zP) ⊕ (Int × zP)) := fun (v4, S5) =>
(pald S5 2 7 6).bind fun v8 =>
if v8 ≤ v4 then (some (.inl (.inr S5)))
else ((pidx 8 v4).bind fun q1 =>
(pald S5 (32 + q1) 2 0).bind fun v14 =>
(p_X0_reachesBy W S5 a1 3 116 v14).bind fun (v15, S16) =>
(pidx 8 v4).bind fun q2 =>
(pald S16 (32 + q2) 2 1).bind fun v20 =>
if v15 = v20 then (p32 (v4 + 1) fun v21 =>
some (.inr (v21, S16)))
else (some (.inl (.inl (0, S16)))))
set_option maxHeartbeats 4000000 in
theorem rb_X0_isLaw_2 {g : zGd} {M : Nat} {m0 : zMm} (hL : pLC g (zR m0) M) {W : pW} (hW : pWok g (bC M) m0 W) {a1 : Option Nat} : ∀ s t, (qP qI (qM (bC M) m0)) s t → pRf (qS (qS (qP qI (qM (bC M) m0)) (qM (bC M) m0)) (qP qI (qM (bC M) m0))) (pb_X0_isLaw_2 W a1 s) (b_X0_isLaw_2 g (some ((bC M).1 + 0)) a1 t) := by
  rintro ⟨pv4, S5⟩ ⟨v4, m5⟩ ⟨ev4, ⟨em5, hm5⟩⟩
  change pv4 = v4.toInt at ev4; subst ev4
  change S5 = pI (bC M) m5 at em5; subst em5
  unfold pb_X0_isLaw_2 b_X0_isLaw_2
  try dsimp only
  refine r_gr (d := 1) hm5 (lc_o hL) (lc_f0 hL) ?_
  refine r_gr (d := 2) hm5 (ls_o (lc_s1 hL)) (ls_f0 (lc_s1 hL)) ?_
  refine r_ald (ls_k1 (lc_s1 hL)) (eI (6 : Int32) (by decide)) (fun _ => rfl) (fun v8 => ?_)
  refine r_ite (pc_le rfl rfl) ?_ ?_
  · exact r_some (qS_l (qS_r (qM_i hm5)))
  · refine r_gr (d := 1) hm5 (lc_o hL) (lc_f0 hL) ?_
    refine r_gr (d := 3) hm5 (ls_o (lc_s1 hL)) (ls_f1 (lc_s1 hL)) ?_
    refine r_gr (d := 1) hm5 (lc_o hL) (lc_f0 hL) ?_
    refine r_gr (d := 31) hm5 (ls_o (lc_s1 hL)) (ls_f9 (lc_s1 hL)) ?_
    refine r_aldr (d := 32) hm5 (ls_k30 (lc_s1 hL)) rfl (ls_r30 (lc_s1 hL)) (fun q1 hq1 => ?_)
    refine r_ald ((ls_e30 (lc_s1 hL)) q1 hq1) (eI (0 : Int32) (by decide)) (fun _ => rfl) (fun v14 => ?_)
    refine r_bind (A := (qP qI (qM (bC M) m0))) (r_rc (B := (bC M)) (c := 0) (lc_o hL) (rf_X0_reachesBy hL hW hm5 (ls_k2 (lc_s1 hL)) (fun _ => wC (by omega)) rfl)) ?_
    rintro ⟨pv15, S16⟩ ⟨v15, m16⟩ ⟨ev15, ⟨em16, hm16⟩⟩
    change pv15 = v15.toInt at ev15; subst ev15
    change S16 = pI (bC M) m16 at em16; subst em16
    refine r_gr (d := 1) hm16 (lc_o hL) (lc_f0 hL) ?_
    refine r_gr (d := 31) hm16 (ls_o (lc_s1 hL)) (ls_f9 (lc_s1 hL)) ?_
    refine r_aldr (d := 32) hm16 (ls_k30 (lc_s1 hL)) rfl (ls_r30 (lc_s1 hL)) (fun q2 hq2 => ?_)
    refine r_ald ((ls_e30 (lc_s1 hL)) q2 hq2) (eI (1 : Int32) (by decide)) (fun _ => rfl) (fun v20 => ?_)
    refine r_ite (pc_eq rfl rfl) ?_ ?_
    · refine r_lt32 (px_add (px_v _) (px_n (1 : Int32) (by decide))) (fun v21 => ?_)
      exact r_some (qS_r (qP_i (qI_i rfl) (qM_i hm16)))
    · exact r_some (qS_l (qS_l (qP_i (qI_i (eI (0 : Int32) (by decide))) (qM_i hm16))))
def p_X0_isLaw (W : pW) (S : zP) (a1 : Option Nat) : Option (Int × zP) :=
zEx (σ := zP) (zLoop (pb_X0_isLaw_2 W a1) zFuel (0, S)) fun S2 =>
some ((1, S2))
set_option maxHeartbeats 4000000 in
theorem rf_X0_isLaw {g : zGd} {M : Nat} {m0 : zMm} (hL : pLC g (zR m0) M) {W : pW} (hW : pWok g (bC M) m0 W) {m : zMm} (hm : pOk (bC M) m0 m) {a1 : Option Nat} : pRf (qP qI (qM (bC M) m0)) (p_X0_isLaw W (pI (bC M) m) a1) (f_X0_isLaw g m (some ((bC M).1 + 0)) a1) := by
  unfold p_X0_isLaw f_X0_isLaw
  refine r_ex (Q := (qP qI (qM (bC M) m0))) (R := (qM (bC M) m0)) ?_ ?_
  · exact (r_loop (rb_X0_isLaw_2 hL hW) zFuel _ _ (qP_i (qI_i (eI (0 : Int32) (by decide))) (qM_i hm)))
  rintro S2 m2 ⟨em2, hm2⟩
  change S2 = pI (bC M) m2 at em2; subst em2
  exact r_some (qP_i (qI_i (eI (1 : Int32) (by decide))) (qM_i hm2))
def pb_X0_whose_4 (W : pW)  : (Int × (Int × zP)) → Option ((Int × zP) ⊕ (Int × (Int × zP))) := fun (v5, v6, S7) =>
(pald S7 2 7 1).bind fun v10 =>
if v10 ≤ v6 then (some (.inl (v5, S7)))
else ((ptx W v6).bind fun r13 =>
(p_X0_isLaw W S7 r13).bind fun (v14, S15) =>
if v14 = 0 then (zlt (por v5 0) fun v16 =>
p32 (v6 + 1) fun v17 =>
some (.inr (v16, v17, S15)))
else (zlt (pshl 1 v6) fun x1 =>
zlt (por v5 x1) fun v18 =>
p32 (v6 + 1) fun v19 =>
some (.inr (v18, v19, S15))))
set_option maxHeartbeats 4000000 in
theorem rb_X0_whose_4 {g : zGd} {M : Nat} {m0 : zMm} (hL : pLC g (zR m0) M) {W : pW} (hW : pWok g (bC M) m0 W)  : ∀ s t, (qP qI (qP qI (qM (bC M) m0))) s t → pRf (qS (qP qI (qM (bC M) m0)) (qP qI (qP qI (qM (bC M) m0)))) (pb_X0_whose_4 W s) (b_X0_whose_4 g (some ((bC M).1 + 0)) t) := by
  rintro ⟨pv5, pv6, S7⟩ ⟨v5, v6, m7⟩ ⟨ev5, ev6, ⟨em7, hm7⟩⟩
  change pv5 = v5.toInt at ev5; subst ev5
  change pv6 = v6.toInt at ev6; subst ev6
  change S7 = pI (bC M) m7 at em7; subst em7
  unfold pb_X0_whose_4 b_X0_whose_4
  try dsimp only
  refine r_gr (d := 1) hm7 (lc_o hL) (lc_f0 hL) ?_
  refine r_gr (d := 2) hm7 (ls_o (lc_s1 hL)) (ls_f0 (lc_s1 hL)) ?_
  refine r_ald (ls_k1 (lc_s1 hL)) (eI (1 : Int32) (by decide)) (fun _ => rfl) (fun v10 => ?_)
  refine r_ite (pc_le rfl rfl) ?_ ?_
  · exact r_some (qS_l (qP_i (qI_i rfl) (qM_i hm7)))
  · refine r_gr (d := 1) hm7 (lc_o hL) (lc_f0 hL) ?_
    refine r_gr (d := 71) hm7 (ls_o (lc_s1 hL)) (ls_f11 (lc_s1 hL)) ?_
    refine r_aldt hm7 (ls_k70 (lc_s1 hL)) rfl hW.1 (fun r13 => ?_)
    refine r_bind (A := (qP qI (qM (bC M) m0))) (r_rc (B := (bC M)) (c := 0) (lc_o hL) (rf_X0_isLaw hL hW hm7)) ?_
    rintro ⟨pv14, S15⟩ ⟨v14, m15⟩ ⟨ev14, ⟨em15, hm15⟩⟩
    change pv14 = v14.toInt at ev14; subst ev14
    change S15 = pI (bC M) m15 at em15; subst em15
    refine r_ite (pc_eq rfl (eI (0 : Int32) (by decide))) ?_ ?_
    · refine r_ltx (pe_or rfl (eI (0 : Int32) (by decide))) (fun v16 => ?_)
      refine r_lt32 (px_add (px_v _) (px_n (1 : Int32) (by decide))) (fun v17 => ?_)
      exact r_some (qS_r (qP_i (qI_i rfl) (qP_i (qI_i rfl) (qM_i hm15))))
    · refine r_x32 (pe_shl (eI (1 : Int32) (by decide)) rfl) ?_
      refine r_ltx (pe_or rfl rfl) (fun v18 => ?_)
      refine r_lt32 (px_add (px_v _) (px_n (1 : Int32) (by decide))) (fun v19 => ?_)
      exact r_some (qS_r (qP_i (qI_i rfl) (qP_i (qI_i rfl) (qM_i hm15))))
def p_X0_whose (W : pW) (S : zP) : Option (Int × zP) :=
(zLoop (pb_X0_whose_4 W) zFuel (0, 0, S)).bind fun (v2, S3) =>
some ((v2, S3))
set_option maxHeartbeats 4000000 in
theorem rf_X0_whose {g : zGd} {M : Nat} {m0 : zMm} (hL : pLC g (zR m0) M) {W : pW} (hW : pWok g (bC M) m0 W) {m : zMm} (hm : pOk (bC M) m0 m) : pRf (qP qI (qM (bC M) m0)) (p_X0_whose W (pI (bC M) m)) (f_X0_whose g m (some ((bC M).1 + 0))) := by
  unfold p_X0_whose f_X0_whose
  refine r_bind (A := (qP qI (qM (bC M) m0))) (r_loop (rb_X0_whose_4 hL hW) zFuel _ _ (qP_i (qI_i (eI (0 : Int32) (by decide))) (qP_i (qI_i (eI (0 : Int32) (by decide))) (qM_i hm)))) ?_
  rintro ⟨pv2, S3⟩ ⟨v2, m3⟩ ⟨ev2, ⟨em3, hm3⟩⟩
  change pv2 = v2.toInt at ev2; subst ev2
  change S3 = pI (bC M) m3 at em3; subst em3
  exact r_some (qP_i (qI_i rfl) (qM_i hm3))
def pb_X0_fullest_4 (S : zP) : (Int × Int) → Option (Int ⊕ (Int × Int)) := fun (v4, v5) =>
(p_X0_many S).bind fun v6 =>
if v6 ≤ v5 then (some (.inl v4))
else (p32 (8 + v5) fun x1 =>
(pald S 3 116 x1).bind fun v9 =>
((if v4 = (-1) then (some (0))
else (p32 (8 + v4) fun x2 =>
(pald S 3 116 x2).bind fun v14 =>
some (v14)) : Option Int)).bind fun v11 =>
if v9 ≤ v11 then (p32 (v5 + 1) fun v15 =>
some (.inr (v4, v15)))
else (p32 (v5 + 1) fun v16 =>
some (.inr (v5, v16))))
set_option maxHeartbeats 4000000 in
theorem rb_X0_fullest_4 {g : zGd} {M : Nat} {m0 : zMm} (hL : pLC g (zR m0) M) {m : zMm} (hm : pOk (bC M) m0 m) : ∀ s t, (qP qI qI) s t → pRf (qS qI (qP qI qI)) (pb_X0_fullest_4 (pI (bC M) m) s) (b_X0_fullest_4 g m (some ((bC M).1 + 0)) t) := by
  rintro ⟨pv4, pv5⟩ ⟨v4, v5⟩ ⟨ev4, ev5⟩
  change pv4 = v4.toInt at ev4; subst ev4
  change pv5 = v5.toInt at ev5; subst ev5
  unfold pb_X0_fullest_4 b_X0_fullest_4
  try dsimp only
  refine r_bind (A := qI) (r_rc (B := (bC M)) (c := 0) (lc_o hL) (rf_X0_many hL hm)) ?_
  rintro pv6 v6 ev6
  change pv6 = v6.toInt at ev6; subst ev6
  refine r_ite (pc_le rfl rfl) ?_ ?_
  · exact r_some (qS_l (qI_i rfl))
  · refine r_gr (d := 1) hm (lc_o hL) (lc_f0 hL) ?_
    refine r_gr (d := 3) hm (ls_o (lc_s1 hL)) (ls_f1 (lc_s1 hL)) ?_
    refine r_p32 (px_add (px_n (8 : Int32) (by decide)) (px_v _)) ?_
    refine r_ald (ls_k2 (lc_s1 hL)) rfl (fun _ => rfl) (fun v9 => ?_)
    refine r_bind (A := qI) ?_ ?_
    · refine r_ite (pc_eq rfl (eI (-1 : Int32) (by decide))) ?_ ?_
      · exact r_some (qI_i (eI (0 : Int32) (by decide)))
      · refine r_gr (d := 1) hm (lc_o hL) (lc_f0 hL) ?_
        refine r_gr (d := 3) hm (ls_o (lc_s1 hL)) (ls_f1 (lc_s1 hL)) ?_
        refine r_p32 (px_add (px_n (8 : Int32) (by decide)) (px_v _)) ?_
        refine r_ald (ls_k2 (lc_s1 hL)) rfl (fun _ => rfl) (fun v14 => ?_)
        exact r_some (qI_i rfl)
    rintro pv11 v11 ev11
    change pv11 = v11.toInt at ev11; subst ev11
    refine r_ite (pc_le rfl rfl) ?_ ?_
    · refine r_lt32 (px_add (px_v _) (px_n (1 : Int32) (by decide))) (fun v15 => ?_)
      exact r_some (qS_r (qP_i (qI_i rfl) (qI_i rfl)))
    · refine r_lt32 (px_add (px_v _) (px_n (1 : Int32) (by decide))) (fun v16 => ?_)
      exact r_some (qS_r (qP_i (qI_i rfl) (qI_i rfl)))
def p_X0_fullest (S : zP) : Option Int :=
(zLoop (pb_X0_fullest_4 S) zFuel ((-1), 0)).bind fun v2 =>
some (v2)
set_option maxHeartbeats 4000000 in
theorem rf_X0_fullest {g : zGd} {M : Nat} {m0 : zMm} (hL : pLC g (zR m0) M) {m : zMm} (hm : pOk (bC M) m0 m) : pRf qI (p_X0_fullest (pI (bC M) m)) (f_X0_fullest g m (some ((bC M).1 + 0))) := by
  unfold p_X0_fullest f_X0_fullest
  refine r_bind (A := qI) (r_loop (rb_X0_fullest_4 hL hm) zFuel _ _ (qP_i (qI_i (eI (-1 : Int32) (by decide))) (qI_i (eI (0 : Int32) (by decide))))) ?_
  rintro pv2 v2 ev2
  change pv2 = v2.toInt at ev2; subst ev2
  exact r_some (qI_i rfl)
def pb_X0_calm_4 (S : zP) : (Int × Int) → Option (Int ⊕ (Int × Int)) := fun (v4, v5) =>
(p_X0_many S).bind fun v6 =>
if v6 ≤ v5 then (some (.inl v4))
else (p32 (8 + v5) fun x1 =>
(pald S 3 116 x1).bind fun v9 =>
if v9 = 0 then (zlt (pshl 1 v5) fun x2 =>
zlt (por v4 x2) fun v12 =>
p32 (v5 + 1) fun v13 =>
some (.inr (v12, v13)))
else (zlt (por v4 0) fun v10 =>
p32 (v5 + 1) fun v11 =>
some (.inr (v10, v11))))
set_option maxHeartbeats 4000000 in
theorem rb_X0_calm_4 {g : zGd} {M : Nat} {m0 : zMm} (hL : pLC g (zR m0) M) {m : zMm} (hm : pOk (bC M) m0 m) : ∀ s t, (qP qI qI) s t → pRf (qS qI (qP qI qI)) (pb_X0_calm_4 (pI (bC M) m) s) (b_X0_calm_4 g m (some ((bC M).1 + 0)) t) := by
  rintro ⟨pv4, pv5⟩ ⟨v4, v5⟩ ⟨ev4, ev5⟩
  change pv4 = v4.toInt at ev4; subst ev4
  change pv5 = v5.toInt at ev5; subst ev5
  unfold pb_X0_calm_4 b_X0_calm_4
  try dsimp only
  refine r_bind (A := qI) (r_rc (B := (bC M)) (c := 0) (lc_o hL) (rf_X0_many hL hm)) ?_
  rintro pv6 v6 ev6
  change pv6 = v6.toInt at ev6; subst ev6
  refine r_ite (pc_le rfl rfl) ?_ ?_
  · exact r_some (qS_l (qI_i rfl))
  · refine r_gr (d := 1) hm (lc_o hL) (lc_f0 hL) ?_
    refine r_gr (d := 3) hm (ls_o (lc_s1 hL)) (ls_f1 (lc_s1 hL)) ?_
    refine r_p32 (px_add (px_n (8 : Int32) (by decide)) (px_v _)) ?_
    refine r_ald (ls_k2 (lc_s1 hL)) rfl (fun _ => rfl) (fun v9 => ?_)
    refine r_ite (pc_eq rfl (eI (0 : Int32) (by decide))) ?_ ?_
    · refine r_x32 (pe_shl (eI (1 : Int32) (by decide)) rfl) ?_
      refine r_ltx (pe_or rfl rfl) (fun v12 => ?_)
      refine r_lt32 (px_add (px_v _) (px_n (1 : Int32) (by decide))) (fun v13 => ?_)
      exact r_some (qS_r (qP_i (qI_i rfl) (qI_i rfl)))
    · refine r_ltx (pe_or rfl (eI (0 : Int32) (by decide))) (fun v10 => ?_)
      refine r_lt32 (px_add (px_v _) (px_n (1 : Int32) (by decide))) (fun v11 => ?_)
      exact r_some (qS_r (qP_i (qI_i rfl) (qI_i rfl)))
def p_X0_calm (S : zP) : Option Int :=
(zLoop (pb_X0_calm_4 S) zFuel (0, 0)).bind fun v2 =>
some (v2)
set_option maxHeartbeats 4000000 in
theorem rf_X0_calm {g : zGd} {M : Nat} {m0 : zMm} (hL : pLC g (zR m0) M) {m : zMm} (hm : pOk (bC M) m0 m) : pRf qI (p_X0_calm (pI (bC M) m)) (f_X0_calm g m (some ((bC M).1 + 0))) := by
  unfold p_X0_calm f_X0_calm
  refine r_bind (A := qI) (r_loop (rb_X0_calm_4 hL hm) zFuel _ _ (qP_i (qI_i (eI (0 : Int32) (by decide))) (qI_i (eI (0 : Int32) (by decide))))) ?_
  rintro pv2 v2 ev2
  change pv2 = v2.toInt at ev2; subst ev2
  exact r_some (qI_i rfl)
def pb_X0_ledger_20 (S : zP) (a1 : Int) : (Int × Int) → Option (Int ⊕ (Int × Int)) := fun (v6, v7) =>
(pald S 3 116 15).bind fun v10 =>
if v10 ≤ v7 then (some (.inl v6))
else (if a1 = (-1) then (p32 (v6 + 1) fun v11 =>
p32 (v7 + 1) fun v12 =>
some (.inr (v11, v12)))
else (p32 ((16 + (4 * v7)) + 1) fun x1 =>
(pald S 3 116 x1).bind fun v15 =>
if v15 = a1 then (p32 (v6 + 1) fun v18 =>
p32 (v7 + 1) fun v19 =>
some (.inr (v18, v19)))
else (p32 (v6 + 0) fun v16 =>
p32 (v7 + 1) fun v17 =>
some (.inr (v16, v17)))))
set_option maxHeartbeats 4000000 in
theorem rb_X0_ledger_20 {g : zGd} {M : Nat} {m0 : zMm} (hL : pLC g (zR m0) M) {m : zMm} (hm : pOk (bC M) m0 m) {pa1 : Int} {a1 : Int32} (ea1 : pa1 = a1.toInt) : ∀ s t, (qP qI qI) s t → pRf (qS qI (qP qI qI)) (pb_X0_ledger_20 (pI (bC M) m) pa1 s) (b_X0_ledger_20 g m (some ((bC M).1 + 0)) a1 t) := by
  subst ea1
  rintro ⟨pv6, pv7⟩ ⟨v6, v7⟩ ⟨ev6, ev7⟩
  change pv6 = v6.toInt at ev6; subst ev6
  change pv7 = v7.toInt at ev7; subst ev7
  unfold pb_X0_ledger_20 b_X0_ledger_20
  try dsimp only
  refine r_gr (d := 1) hm (lc_o hL) (lc_f0 hL) ?_
  refine r_gr (d := 3) hm (ls_o (lc_s1 hL)) (ls_f1 (lc_s1 hL)) ?_
  refine r_ald (ls_k2 (lc_s1 hL)) (eI (15 : Int32) (by decide)) (fun _ => rfl) (fun v10 => ?_)
  refine r_ite (pc_le rfl rfl) ?_ ?_
  · exact r_some (qS_l (qI_i rfl))
  · refine r_ite (pc_eq rfl (eI (-1 : Int32) (by decide))) ?_ ?_
    · refine r_lt32 (px_add (px_v _) (px_n (1 : Int32) (by decide))) (fun v11 => ?_)
      refine r_lt32 (px_add (px_v _) (px_n (1 : Int32) (by decide))) (fun v12 => ?_)
      exact r_some (qS_r (qP_i (qI_i rfl) (qI_i rfl)))
    · refine r_gr (d := 1) hm (lc_o hL) (lc_f0 hL) ?_
      refine r_gr (d := 3) hm (ls_o (lc_s1 hL)) (ls_f1 (lc_s1 hL)) ?_
      refine r_p32 (px_add (px_add (px_n (16 : Int32) (by decide)) (px_mul (px_n (4 : Int32) (by decide)) (px_v _))) (px_n (1 : Int32) (by decide))) ?_
      refine r_ald (ls_k2 (lc_s1 hL)) rfl (fun _ => rfl) (fun v15 => ?_)
      refine r_ite (pc_eq rfl rfl) ?_ ?_
      · refine r_lt32 (px_add (px_v _) (px_n (1 : Int32) (by decide))) (fun v18 => ?_)
        refine r_lt32 (px_add (px_v _) (px_n (1 : Int32) (by decide))) (fun v19 => ?_)
        exact r_some (qS_r (qP_i (qI_i rfl) (qI_i rfl)))
      · refine r_lt32 (px_add (px_v _) (px_n (0 : Int32) (by decide))) (fun v16 => ?_)
        refine r_lt32 (px_add (px_v _) (px_n (1 : Int32) (by decide))) (fun v17 => ?_)
        exact r_some (qS_r (qP_i (qI_i rfl) (qI_i rfl)))
def p_X0_ledger (S : zP) (a1 : Int) : Option Int :=
zEx (σ := Unit) (if a1 = (-1) then (some (.inr ()))
else ((p_X0_isKin S a1).bind fun v2 =>
if v2 = 0 then (some (.inl (-2)))
else (some (.inr ())))) fun _ =>
(zLoop (pb_X0_ledger_20 S a1) zFuel (0, 0)).bind fun v4 =>
some (v4)
set_option maxHeartbeats 4000000 in
theorem rf_X0_ledger {g : zGd} {M : Nat} {m0 : zMm} (hL : pLC g (zR m0) M) {m : zMm} (hm : pOk (bC M) m0 m) {pa1 : Int} {a1 : Int32} (ea1 : pa1 = a1.toInt) : pRf qI (p_X0_ledger (pI (bC M) m) pa1) (f_X0_ledger g m (some ((bC M).1 + 0)) a1) := by
  subst ea1
  unfold p_X0_ledger f_X0_ledger
  refine r_ex (Q := qI) (R := qU) ?_ ?_
  · refine r_ite (pc_eq rfl (eI (-1 : Int32) (by decide))) ?_ ?_
    · exact r_some (qS_r qU_i)
    · refine r_bind (A := qI) (r_rc (B := (bC M)) (c := 0) (lc_o hL) (rf_X0_isKin hL hm rfl)) ?_
      rintro pv2 v2 ev2
      change pv2 = v2.toInt at ev2; subst ev2
      refine r_ite (pc_eq rfl (eI (0 : Int32) (by decide))) ?_ ?_
      · exact r_some (qS_l (qI_i (eI (-2 : Int32) (by decide))))
      · exact r_some (qS_r qU_i)
  rintro _ _ _
  refine r_bind (A := qI) (r_loop (rb_X0_ledger_20 hL hm rfl) zFuel _ _ (qP_i (qI_i (eI (0 : Int32) (by decide))) (qI_i (eI (0 : Int32) (by decide))))) ?_
  rintro pv4 v4 ev4
  change pv4 = v4.toInt at ev4; subst ev4
  exact r_some (qI_i rfl)
def p_X0_about (S : zP) (a1 : Int) : Option Int :=
if a1 = 0 then ((p_X0_many S).bind fun v1 =>
some (v1))
else (if a1 = 1 then ((pald S 2 7 1).bind fun v4 =>
some (v4))
else (if a1 = 2 then ((pald S 2 7 2).bind fun v7 =>
some (v7))
else (if a1 = 3 then ((pald S 2 7 3).bind fun v10 =>
some (v10))
else (if a1 = 4 then ((pald S 2 7 4).bind fun v13 =>
some (v13))
else (if a1 = 5 then ((pald S 2 7 5).bind fun v16 =>
some (v16))
else (if a1 = 6 then ((pald S 2 7 6).bind fun v19 =>
some (v19))
else (if a1 = 7 then (zlt (S 0 3) fun v20 =>
some (v20))
else (some ((-2))))))))))
set_option maxHeartbeats 4000000 in
theorem rf_X0_about {g : zGd} {M : Nat} {m0 : zMm} (hL : pLC g (zR m0) M) {m : zMm} (hm : pOk (bC M) m0 m) {pa1 : Int} {a1 : Int32} (ea1 : pa1 = a1.toInt) : pRf qI (p_X0_about (pI (bC M) m) pa1) (f_X0_about g m (some ((bC M).1 + 0)) a1) := by
  subst ea1
  unfold p_X0_about f_X0_about
  refine r_ite (pc_eq rfl (eI (0 : Int32) (by decide))) ?_ ?_
  · refine r_bind (A := qI) (r_rc (B := (bC M)) (c := 0) (lc_o hL) (rf_X0_many hL hm)) ?_
    rintro pv1 v1 ev1
    change pv1 = v1.toInt at ev1; subst ev1
    exact r_some (qI_i rfl)
  · refine r_ite (pc_eq rfl (eI (1 : Int32) (by decide))) ?_ ?_
    · refine r_gr (d := 1) hm (lc_o hL) (lc_f0 hL) ?_
      refine r_gr (d := 2) hm (ls_o (lc_s1 hL)) (ls_f0 (lc_s1 hL)) ?_
      refine r_ald (ls_k1 (lc_s1 hL)) (eI (1 : Int32) (by decide)) (fun _ => rfl) (fun v4 => ?_)
      exact r_some (qI_i rfl)
    · refine r_ite (pc_eq rfl (eI (2 : Int32) (by decide))) ?_ ?_
      · refine r_gr (d := 1) hm (lc_o hL) (lc_f0 hL) ?_
        refine r_gr (d := 2) hm (ls_o (lc_s1 hL)) (ls_f0 (lc_s1 hL)) ?_
        refine r_ald (ls_k1 (lc_s1 hL)) (eI (2 : Int32) (by decide)) (fun _ => rfl) (fun v7 => ?_)
        exact r_some (qI_i rfl)
      · refine r_ite (pc_eq rfl (eI (3 : Int32) (by decide))) ?_ ?_
        · refine r_gr (d := 1) hm (lc_o hL) (lc_f0 hL) ?_
          refine r_gr (d := 2) hm (ls_o (lc_s1 hL)) (ls_f0 (lc_s1 hL)) ?_
          refine r_ald (ls_k1 (lc_s1 hL)) (eI (3 : Int32) (by decide)) (fun _ => rfl) (fun v10 => ?_)
          exact r_some (qI_i rfl)
        · refine r_ite (pc_eq rfl (eI (4 : Int32) (by decide))) ?_ ?_
          · refine r_gr (d := 1) hm (lc_o hL) (lc_f0 hL) ?_
            refine r_gr (d := 2) hm (ls_o (lc_s1 hL)) (ls_f0 (lc_s1 hL)) ?_
            refine r_ald (ls_k1 (lc_s1 hL)) (eI (4 : Int32) (by decide)) (fun _ => rfl) (fun v13 => ?_)
            exact r_some (qI_i rfl)
          · refine r_ite (pc_eq rfl (eI (5 : Int32) (by decide))) ?_ ?_
            · refine r_gr (d := 1) hm (lc_o hL) (lc_f0 hL) ?_
              refine r_gr (d := 2) hm (ls_o (lc_s1 hL)) (ls_f0 (lc_s1 hL)) ?_
              refine r_ald (ls_k1 (lc_s1 hL)) (eI (5 : Int32) (by decide)) (fun _ => rfl) (fun v16 => ?_)
              exact r_some (qI_i rfl)
            · refine r_ite (pc_eq rfl (eI (6 : Int32) (by decide))) ?_ ?_
              · refine r_gr (d := 1) hm (lc_o hL) (lc_f0 hL) ?_
                refine r_gr (d := 2) hm (ls_o (lc_s1 hL)) (ls_f0 (lc_s1 hL)) ?_
                refine r_ald (ls_k1 (lc_s1 hL)) (eI (6 : Int32) (by decide)) (fun _ => rfl) (fun v19 => ?_)
                exact r_some (qI_i rfl)
              · refine r_ite (pc_eq rfl (eI (7 : Int32) (by decide))) ?_ ?_
                · refine r_gi (B := (bC M)) (c := 0) (i := 3) (lc_o hL) rfl rfl (fun v20 => ?_)
                  exact r_some (qI_i rfl)
                · exact r_some (qI_i (eI (-2 : Int32) (by decide)))
