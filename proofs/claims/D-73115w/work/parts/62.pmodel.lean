/-! P-LEVEL: programs (printed by gen/prun.py) -/
set_option maxRecDepth 100000
def pb_X2_copy_2 (ca0 na0 : Nat) (ca1 na1 : Nat) : (Int × zP) → Option (zP ⊕ (Int × zP)) := fun (v4, S5) =>
if 1450 ≤ v4 then (some (.inl S5))
else ((pald S5 ca0 na0 v4).bind fun v6 =>
(past S5 ca1 na1 v4 v6).bind fun S7 =>
p32 (v4 + 1) fun v8 =>
some (.inr (v8, S7)))
set_option maxHeartbeats 4000000 in
theorem rb_X2_copy_2 {g : zGd} {M : Nat} {m0 : zMm} (hL : pLM g (zR m0) M) {ca0 na0 : Nat} (ka0 : zK g ((bM M).1 + ca0) = (101, na0)) (za0 : ∀ i, (bM M).2.2 ca0 i) (wa0 : ∀ i, (bM M).2.1 ca0 i = false) {ca1 na1 : Nat} (ka1 : zK g ((bM M).1 + ca1) = (101, na1)) (za1 : ∀ i, (bM M).2.2 ca1 i) (wa1 : ∀ i, (bM M).2.1 ca1 i = false) : ∀ s t, (qP qI (qM (bM M) m0)) s t → pRf (qS (qM (bM M) m0) (qP qI (qM (bM M) m0))) (pb_X2_copy_2 ca0 na0 ca1 na1 s) (b_X2_copy_2 g (some ((bM M).1 + ca0)) (some ((bM M).1 + ca1)) t) := by
  rintro ⟨pv4, S5⟩ ⟨v4, m5⟩ ⟨ev4, ⟨em5, hm5⟩⟩
  change pv4 = v4.toInt at ev4; subst ev4
  change S5 = pI (bM M) m5 at em5; subst em5
  unfold pb_X2_copy_2 b_X2_copy_2
  try dsimp only
  refine r_ite (pc_le (eI (1450 : Int32) (by decide)) rfl) ?_ ?_
  · exact r_some (qS_l (qM_i hm5))
  · refine r_ald ka0 rfl wa0 (fun v6 => ?_)
    refine r_ast hm5 ka1 hL.1 (za1 _) rfl rfl wa1 (fun m7 hm7 => ?_)
    refine r_lt32 (px_add (px_v _) (px_n (1 : Int32) (by decide))) (fun v8 => ?_)
    exact r_some (qS_r (qP_i (qI_i rfl) (qM_i hm7)))
def p_X2_copy (S : zP) (ca0 na0 : Nat) (ca1 na1 : Nat) : Option zP :=
(zLoop (pb_X2_copy_2 ca0 na0 ca1 na1) zFuel (0, S)).bind fun S2 =>
some (S2)
set_option maxHeartbeats 4000000 in
theorem rf_X2_copy {g : zGd} {M : Nat} {m0 : zMm} (hL : pLM g (zR m0) M) {m : zMm} (hm : pOk (bM M) m0 m) {ca0 na0 : Nat} (ka0 : zK g ((bM M).1 + ca0) = (101, na0)) (za0 : ∀ i, (bM M).2.2 ca0 i) (wa0 : ∀ i, (bM M).2.1 ca0 i = false) {ca1 na1 : Nat} (ka1 : zK g ((bM M).1 + ca1) = (101, na1)) (za1 : ∀ i, (bM M).2.2 ca1 i) (wa1 : ∀ i, (bM M).2.1 ca1 i = false) : pRf (qM (bM M) m0) (p_X2_copy (pI (bM M) m) ca0 na0 ca1 na1) (f_X2_copy g m (some ((bM M).1 + ca0)) (some ((bM M).1 + ca1))) := by
  unfold p_X2_copy f_X2_copy
  refine r_bind (A := (qM (bM M) m0)) (r_loop (rb_X2_copy_2 hL ka0 za0 wa0 ka1 za1 wa1) zFuel _ _ (qP_i (qI_i (eI (0 : Int32) (by decide))) (qM_i hm))) ?_
  rintro S2 m2 ⟨em2, hm2⟩
  change S2 = pI (bM M) m2 at em2; subst em2
  exact r_some (qM_i hm2)
def p_X2_begin (S : zP) (a1 : Int) : Option zP :=
p32 (29 + a1) fun x1 =>
(pald S 1 1450 x1).bind fun v3 =>
p32 (11 + a1) fun x2 =>
(past S 1 1450 x2 v3).bind fun S4 =>
p32 (17 + a1) fun x3 =>
(past S4 1 1450 x3 a1).bind fun S6 =>
some (S6)
set_option maxHeartbeats 4000000 in
theorem rf_X2_begin {g : zGd} {M : Nat} {m0 : zMm} (hL : pLM g (zR m0) M) {m : zMm} (hm : pOk (bM M) m0 m) {pa1 : Int} {a1 : Int32} (ea1 : pa1 = a1.toInt) : pRf (qM (bM M) m0) (p_X2_begin (pI (bM M) m) pa1) (f_X2_begin g m (some ((bM M).1 + 0)) a1) := by
  subst ea1
  unfold p_X2_begin f_X2_begin
  refine r_gr (d := 1) hm (lm_o hL) (lm_f0 hL) ?_
  refine r_gr (d := 1) hm (lm_o hL) (lm_f0 hL) ?_
  refine r_p32 (px_add (px_n (29 : Int32) (by decide)) (px_v _)) ?_
  refine r_ald (lm_k1 hL) rfl (fun _ => rfl) (fun v3 => ?_)
  refine r_p32 (px_add (px_n (11 : Int32) (by decide)) (px_v _)) ?_
  refine r_ast hm (lm_k1 hL) hL.1 (wM (by omega)) rfl rfl (fun _ => rfl) (fun m4 hm4 => ?_)
  refine r_gr (d := 1) hm4 (lm_o hL) (lm_f0 hL) ?_
  refine r_p32 (px_add (px_n (17 : Int32) (by decide)) (px_v _)) ?_
  refine r_ast hm4 (lm_k1 hL) hL.1 (wM (by omega)) rfl rfl (fun _ => rfl) (fun m6 hm6 => ?_)
  exact r_some (qM_i hm6)
def p_X2_isIn (a0 : Int) (a1 : Int) (a2 : Int) : Option Int :=
if a0 < a1 then (some (0))
else (if a2 < a0 then (some (0))
else (some (1)))
set_option maxHeartbeats 4000000 in
theorem rf_X2_isIn {pa0 : Int} {a0 : Int32} (ea0 : pa0 = a0.toInt) {pa1 : Int} {a1 : Int32} (ea1 : pa1 = a1.toInt) {pa2 : Int} {a2 : Int32} (ea2 : pa2 = a2.toInt) : pRf qI (p_X2_isIn pa0 pa1 pa2) (f_X2_isIn a0 a1 a2) := by
  subst ea0
  subst ea1
  subst ea2
  unfold p_X2_isIn f_X2_isIn
  refine r_ite (pc_lt rfl rfl) ?_ ?_
  · exact r_some (qI_i (eI (0 : Int32) (by decide)))
  · refine r_ite (pc_lt rfl rfl) ?_ ?_
    · exact r_some (qI_i (eI (0 : Int32) (by decide)))
    · exact r_some (qI_i (eI (1 : Int32) (by decide)))
def p_X2_kin (S : zP) (a1 : Int) (a2 : Int) : Option (Int × zP) :=
(p_X2_isIn a1 0 9).bind fun v1 =>
if v1 = 0 then (some (((-1), S)))
else ((p_X2_isIn a2 0 99).bind fun v2 =>
if v2 = 0 then (some (((-1), S)))
else ((pald S 1 1450 0).bind fun v4 =>
if v4 = 6 then (some (((-1), S)))
else ((pald S 1 1450 0).bind fun v6 =>
p32 (23 + v6) fun x1 =>
(past S 1 1450 x1 a1).bind fun S8 =>
p32 (29 + v6) fun x2 =>
(past S8 1 1450 x2 a2).bind fun S10 =>
(p_X2_begin S10 v6).bind fun S11 =>
(pald S11 1 1450 0).bind fun v13 =>
p32 (v13 + 1) fun x3 =>
(past S11 1 1450 0 x3).bind fun S14 =>
some ((v6, S14)))))
set_option maxHeartbeats 4000000 in
theorem rf_X2_kin {g : zGd} {M : Nat} {m0 : zMm} (hL : pLM g (zR m0) M) {m : zMm} (hm : pOk (bM M) m0 m) {pa1 : Int} {a1 : Int32} (ea1 : pa1 = a1.toInt) {pa2 : Int} {a2 : Int32} (ea2 : pa2 = a2.toInt) : pRf (qP qI (qM (bM M) m0)) (p_X2_kin (pI (bM M) m) pa1 pa2) (f_X2_kin g m (some ((bM M).1 + 0)) a1 a2) := by
  subst ea1
  subst ea2
  unfold p_X2_kin f_X2_kin
  refine r_bind (A := qI) (rf_X2_isIn rfl (eI (0 : Int32) (by decide)) (eI (9 : Int32) (by decide))) ?_
  rintro pv1 v1 ev1
  change pv1 = v1.toInt at ev1; subst ev1
  refine r_ite (pc_eq rfl (eI (0 : Int32) (by decide))) ?_ ?_
  · exact r_some (qP_i (qI_i (eI (-1 : Int32) (by decide))) (qM_i hm))
  · refine r_bind (A := qI) (rf_X2_isIn rfl (eI (0 : Int32) (by decide)) (eI (99 : Int32) (by decide))) ?_
    rintro pv2 v2 ev2
    change pv2 = v2.toInt at ev2; subst ev2
    refine r_ite (pc_eq rfl (eI (0 : Int32) (by decide))) ?_ ?_
    · exact r_some (qP_i (qI_i (eI (-1 : Int32) (by decide))) (qM_i hm))
    · refine r_gr (d := 1) hm (lm_o hL) (lm_f0 hL) ?_
      refine r_ald (lm_k1 hL) (eI (0 : Int32) (by decide)) (fun _ => rfl) (fun v4 => ?_)
      refine r_ite (pc_eq rfl (eI (6 : Int32) (by decide))) ?_ ?_
      · exact r_some (qP_i (qI_i (eI (-1 : Int32) (by decide))) (qM_i hm))
      · refine r_gr (d := 1) hm (lm_o hL) (lm_f0 hL) ?_
        refine r_ald (lm_k1 hL) (eI (0 : Int32) (by decide)) (fun _ => rfl) (fun v6 => ?_)
        refine r_gr (d := 1) hm (lm_o hL) (lm_f0 hL) ?_
        refine r_p32 (px_add (px_n (23 : Int32) (by decide)) (px_v _)) ?_
        refine r_ast hm (lm_k1 hL) hL.1 (wM (by omega)) rfl rfl (fun _ => rfl) (fun m8 hm8 => ?_)
        refine r_gr (d := 1) hm8 (lm_o hL) (lm_f0 hL) ?_
        refine r_p32 (px_add (px_n (29 : Int32) (by decide)) (px_v _)) ?_
        refine r_ast hm8 (lm_k1 hL) hL.1 (wM (by omega)) rfl rfl (fun _ => rfl) (fun m10 hm10 => ?_)
        refine r_bind (A := (qM (bM M) m0)) (r_rc (B := (bM M)) (c := 0) (lm_o hL) (rf_X2_begin hL hm10 rfl)) ?_
        rintro S11 m11 ⟨em11, hm11⟩
        change S11 = pI (bM M) m11 at em11; subst em11
        refine r_gr (d := 1) hm11 (lm_o hL) (lm_f0 hL) ?_
        refine r_ald (lm_k1 hL) (eI (0 : Int32) (by decide)) (fun _ => rfl) (fun v13 => ?_)
        refine r_p32 (px_add (px_v _) (px_n (1 : Int32) (by decide))) ?_
        refine r_ast hm11 (lm_k1 hL) hL.1 (wM (by omega)) (eI (0 : Int32) (by decide)) rfl (fun _ => rfl) (fun m14 hm14 => ?_)
        exact r_some (qP_i (qI_i rfl) (qM_i hm14))
def p_X2_isKin (S : zP) (a1 : Int) : Option Int :=
(pald S 1 1450 0).bind fun v2 =>
p32 (v2 - 1) fun x1 =>
(p_X2_isIn a1 0 x1).bind fun v3 =>
(pbo v3).bind fun z =>
some (z)
set_option maxHeartbeats 4000000 in
theorem rf_X2_isKin {g : zGd} {M : Nat} {m0 : zMm} (hL : pLM g (zR m0) M) {m : zMm} (hm : pOk (bM M) m0 m) {pa1 : Int} {a1 : Int32} (ea1 : pa1 = a1.toInt) : pRf qI (p_X2_isKin (pI (bM M) m) pa1) (f_X2_isKin g m (some ((bM M).1 + 0)) a1) := by
  subst ea1
  unfold p_X2_isKin f_X2_isKin
  refine r_gr (d := 1) hm (lm_o hL) (lm_f0 hL) ?_
  refine r_ald (lm_k1 hL) (eI (0 : Int32) (by decide)) (fun _ => rfl) (fun v2 => ?_)
  refine r_p32 (px_sub (px_v _) (px_n (1 : Int32) (by decide))) ?_
  refine r_bind (A := qI) (rf_X2_isIn rfl (eI (0 : Int32) (by decide)) rfl) ?_
  rintro pv3 v3 ev3
  change pv3 = v3.toInt at ev3; subst ev3
  refine r_bo rfl (fun z => ?_)
  exact r_some (qI_i rfl)
def p_X2_spite (S : zP) (a1 : Int) (a2 : Int) (a3 : Int) : Option (Int × zP) :=
(p_X2_isKin S a1).bind fun v1 =>
if v1 = 0 then (some ((0, S)))
else ((p_X2_isKin S a2).bind fun v2 =>
if v2 = 0 then (some ((0, S)))
else (if a1 = a2 then (some ((0, S)))
else ((p_X2_isIn a3 0 99).bind fun v3 =>
if v3 = 0 then (some ((0, S)))
else (p32 ((35 + (6 * a1)) + a2) fun x1 =>
(past S 1 1450 x1 a3).bind fun S5 =>
p32 ((35 + (6 * a2)) + a1) fun x2 =>
(past S5 1 1450 x2 a3).bind fun S7 =>
some ((1, S7))))))
set_option maxHeartbeats 4000000 in
theorem rf_X2_spite {g : zGd} {M : Nat} {m0 : zMm} (hL : pLM g (zR m0) M) {m : zMm} (hm : pOk (bM M) m0 m) {pa1 : Int} {a1 : Int32} (ea1 : pa1 = a1.toInt) {pa2 : Int} {a2 : Int32} (ea2 : pa2 = a2.toInt) {pa3 : Int} {a3 : Int32} (ea3 : pa3 = a3.toInt) : pRf (qP qI (qM (bM M) m0)) (p_X2_spite (pI (bM M) m) pa1 pa2 pa3) (f_X2_spite g m (some ((bM M).1 + 0)) a1 a2 a3) := by
  subst ea1
  subst ea2
  subst ea3
  unfold p_X2_spite f_X2_spite
  refine r_bind (A := qI) (r_rc (B := (bM M)) (c := 0) (lm_o hL) (rf_X2_isKin hL hm rfl)) ?_
  rintro pv1 v1 ev1
  change pv1 = v1.toInt at ev1; subst ev1
  refine r_ite (pc_eq rfl (eI (0 : Int32) (by decide))) ?_ ?_
  · exact r_some (qP_i (qI_i (eI (0 : Int32) (by decide))) (qM_i hm))
  · refine r_bind (A := qI) (r_rc (B := (bM M)) (c := 0) (lm_o hL) (rf_X2_isKin hL hm rfl)) ?_
    rintro pv2 v2 ev2
    change pv2 = v2.toInt at ev2; subst ev2
    refine r_ite (pc_eq rfl (eI (0 : Int32) (by decide))) ?_ ?_
    · exact r_some (qP_i (qI_i (eI (0 : Int32) (by decide))) (qM_i hm))
    · refine r_ite (pc_eq rfl rfl) ?_ ?_
      · exact r_some (qP_i (qI_i (eI (0 : Int32) (by decide))) (qM_i hm))
      · refine r_bind (A := qI) (rf_X2_isIn rfl (eI (0 : Int32) (by decide)) (eI (99 : Int32) (by decide))) ?_
        rintro pv3 v3 ev3
        change pv3 = v3.toInt at ev3; subst ev3
        refine r_ite (pc_eq rfl (eI (0 : Int32) (by decide))) ?_ ?_
        · exact r_some (qP_i (qI_i (eI (0 : Int32) (by decide))) (qM_i hm))
        · refine r_gr (d := 1) hm (lm_o hL) (lm_f0 hL) ?_
          refine r_p32 (px_add (px_add (px_n (35 : Int32) (by decide)) (px_mul (px_n (6 : Int32) (by decide)) (px_v _))) (px_v _)) ?_
          refine r_ast hm (lm_k1 hL) hL.1 (wM (by omega)) rfl rfl (fun _ => rfl) (fun m5 hm5 => ?_)
          refine r_gr (d := 1) hm5 (lm_o hL) (lm_f0 hL) ?_
          refine r_p32 (px_add (px_add (px_n (35 : Int32) (by decide)) (px_mul (px_n (6 : Int32) (by decide)) (px_v _))) (px_v _)) ?_
          refine r_ast hm5 (lm_k1 hL) hL.1 (wM (by omega)) rfl rfl (fun _ => rfl) (fun m7 hm7 => ?_)
          exact r_some (qP_i (qI_i (eI (1 : Int32) (by decide))) (qM_i hm7))
def pb_X2_four_3 (a1 : Int) : (Int × zP) → Option (zP ⊕ (Int × zP)) := fun (v4, S5) =>
if v4 < 0 then (some (.inl S5))
else (zlt (S5 0 4) fun v7 =>
zlt (pshr a1 v4) fun x1 =>
zlt (pand x1 255) fun x2 =>
(past S5 4 300 v7 x2).bind fun S8 =>
zlt (S8 0 4) fun v9 =>
p32 (v9 + 1) fun x3 =>
zlt (pup S8 0 4 x3) fun S10 =>
p32 (v4 + (-8)) fun v11 =>
some (.inr (v11, S10)))
set_option maxHeartbeats 4000000 in
theorem rb_X2_four_3 {g : zGd} {M : Nat} {m0 : zMm} (hL : pLM g (zR m0) M) {pa1 : Int} {a1 : Int32} (ea1 : pa1 = a1.toInt) : ∀ s t, (qP qI (qM (bM M) m0)) s t → pRf (qS (qM (bM M) m0) (qP qI (qM (bM M) m0))) (pb_X2_four_3 pa1 s) (b_X2_four_3 g (some ((bM M).1 + 0)) a1 t) := by
  subst ea1
  rintro ⟨pv4, S5⟩ ⟨v4, m5⟩ ⟨ev4, ⟨em5, hm5⟩⟩
  change pv4 = v4.toInt at ev4; subst ev4
  change S5 = pI (bM M) m5 at em5; subst em5
  unfold pb_X2_four_3 b_X2_four_3
  try dsimp only
  refine r_ite (pc_lt rfl (eI (0 : Int32) (by decide))) ?_ ?_
  · exact r_some (qS_l (qM_i hm5))
  · refine r_gr (d := 4) hm5 (lm_o hL) (lm_f3 hL) ?_
    refine r_gi (B := (bM M)) (c := 0) (i := 4) (lm_o hL) rfl rfl (fun v7 => ?_)
    refine r_x32 (pe_shr rfl rfl) ?_
    refine r_x32 (pe_and rfl (eI (255 : Int32) (by decide))) ?_
    refine r_ast hm5 (lm_k4 hL) hL.1 (wM (by omega)) rfl rfl (fun _ => rfl) (fun m8 hm8 => ?_)
    refine r_gi (B := (bM M)) (c := 0) (i := 4) (lm_o hL) rfl rfl (fun v9 => ?_)
    refine r_p32 (px_add (px_v _) (px_n (1 : Int32) (by decide))) ?_
    refine r_pi (B := (bM M)) (c := 0) (i := 4) hm8 (lm_o hL) hL.1 (wM (by omega)) rfl rfl rfl (fun m10 hm10 => ?_)
    refine r_lt32 (px_add (px_v _) (px_n (-8 : Int32) (by decide))) (fun v11 => ?_)
    exact r_some (qS_r (qP_i (qI_i rfl) (qM_i hm10)))
def p_X2_four (S : zP) (a1 : Int) : Option zP :=
(zLoop (pb_X2_four_3 a1) zFuel (24, S)).bind fun S2 =>
some (S2)
set_option maxHeartbeats 4000000 in
theorem rf_X2_four {g : zGd} {M : Nat} {m0 : zMm} (hL : pLM g (zR m0) M) {m : zMm} (hm : pOk (bM M) m0 m) {pa1 : Int} {a1 : Int32} (ea1 : pa1 = a1.toInt) : pRf (qM (bM M) m0) (p_X2_four (pI (bM M) m) pa1) (f_X2_four g m (some ((bM M).1 + 0)) a1) := by
  subst ea1
  unfold p_X2_four f_X2_four
  refine r_bind (A := (qM (bM M) m0)) (r_loop (rb_X2_four_3 hL rfl) zFuel _ _ (qP_i (qI_i (eI (24 : Int32) (by decide))) (qM_i hm))) ?_
  rintro S2 m2 ⟨em2, hm2⟩
  change S2 = pI (bM M) m2 at em2; subst em2
  exact r_some (qM_i hm2)
def p_X2_feed (S : zP) (a1 : Int) (a2 : Int) (a3 : Int) (a4 : Int) (a5 : Int) : Option (Int × zP) :=
zlt (S 0 4) fun v1 =>
p32 (v1 + 20) fun x1 =>
if x1 ≤ 300 then ((p_X2_four S a1).bind fun S2 =>
(p_X2_four S2 a2).bind fun S3 =>
(p_X2_four S3 a3).bind fun S4 =>
(p_X2_four S4 a4).bind fun S5 =>
(p_X2_four S5 a5).bind fun S6 =>
zlt (S6 0 4) fun v7 =>
some ((v7, S6)))
else (some (((-1), S)))
set_option maxHeartbeats 4000000 in
theorem rf_X2_feed {g : zGd} {M : Nat} {m0 : zMm} (hL : pLM g (zR m0) M) {m : zMm} (hm : pOk (bM M) m0 m) {pa1 : Int} {a1 : Int32} (ea1 : pa1 = a1.toInt) {pa2 : Int} {a2 : Int32} (ea2 : pa2 = a2.toInt) {pa3 : Int} {a3 : Int32} (ea3 : pa3 = a3.toInt) {pa4 : Int} {a4 : Int32} (ea4 : pa4 = a4.toInt) {pa5 : Int} {a5 : Int32} (ea5 : pa5 = a5.toInt) : pRf (qP qI (qM (bM M) m0)) (p_X2_feed (pI (bM M) m) pa1 pa2 pa3 pa4 pa5) (f_X2_feed g m (some ((bM M).1 + 0)) a1 a2 a3 a4 a5) := by
  subst ea1
  subst ea2
  subst ea3
  subst ea4
  subst ea5
  unfold p_X2_feed f_X2_feed
  refine r_gi (B := (bM M)) (c := 0) (i := 4) (lm_o hL) rfl rfl (fun v1 => ?_)
  refine r_p32 (px_add (px_v _) (px_n (20 : Int32) (by decide))) ?_
  refine r_ite (pc_le rfl (eI (300 : Int32) (by decide))) ?_ ?_
  · refine r_bind (A := (qM (bM M) m0)) (r_rc (B := (bM M)) (c := 0) (lm_o hL) (rf_X2_four hL hm rfl)) ?_
    rintro S2 m2 ⟨em2, hm2⟩
    change S2 = pI (bM M) m2 at em2; subst em2
    refine r_bind (A := (qM (bM M) m0)) (r_rc (B := (bM M)) (c := 0) (lm_o hL) (rf_X2_four hL hm2 rfl)) ?_
    rintro S3 m3 ⟨em3, hm3⟩
    change S3 = pI (bM M) m3 at em3; subst em3
    refine r_bind (A := (qM (bM M) m0)) (r_rc (B := (bM M)) (c := 0) (lm_o hL) (rf_X2_four hL hm3 rfl)) ?_
    rintro S4 m4 ⟨em4, hm4⟩
    change S4 = pI (bM M) m4 at em4; subst em4
    refine r_bind (A := (qM (bM M) m0)) (r_rc (B := (bM M)) (c := 0) (lm_o hL) (rf_X2_four hL hm4 rfl)) ?_
    rintro S5 m5 ⟨em5, hm5⟩
    change S5 = pI (bM M) m5 at em5; subst em5
    refine r_bind (A := (qM (bM M) m0)) (r_rc (B := (bM M)) (c := 0) (lm_o hL) (rf_X2_four hL hm5 rfl)) ?_
    rintro S6 m6 ⟨em6, hm6⟩
    change S6 = pI (bM M) m6 at em6; subst em6
    refine r_gi (B := (bM M)) (c := 0) (i := 4) (lm_o hL) rfl rfl (fun v7 => ?_)
    exact r_some (qP_i (qI_i rfl) (qM_i hm6))
  · exact r_some (qP_i (qI_i (eI (-1 : Int32) (by decide))) (qM_i hm))
def p_X2_end (S : zP) (a1 : Int) : Option (Int × zP) :=
zlt (S 0 4) fun v1 =>
(p_X2_isIn a1 0 v1).bind fun v2 =>
if v2 = 0 then (some (((-1), S)))
else (zlt (pup S 0 4 a1) fun S3 =>
some ((a1, S3)))
set_option maxHeartbeats 4000000 in
theorem rf_X2_end {g : zGd} {M : Nat} {m0 : zMm} (hL : pLM g (zR m0) M) {m : zMm} (hm : pOk (bM M) m0 m) {pa1 : Int} {a1 : Int32} (ea1 : pa1 = a1.toInt) : pRf (qP qI (qM (bM M) m0)) (p_X2_end (pI (bM M) m) pa1) (f_X2_end g m (some ((bM M).1 + 0)) a1) := by
  subst ea1
  unfold p_X2_end f_X2_end
  refine r_gi (B := (bM M)) (c := 0) (i := 4) (lm_o hL) rfl rfl (fun v1 => ?_)
  refine r_bind (A := qI) (rf_X2_isIn rfl (eI (0 : Int32) (by decide)) rfl) ?_
  rintro pv2 v2 ev2
  change pv2 = v2.toInt at ev2; subst ev2
  refine r_ite (pc_eq rfl (eI (0 : Int32) (by decide))) ?_ ?_
  · exact r_some (qP_i (qI_i (eI (-1 : Int32) (by decide))) (qM_i hm))
  · refine r_pi (B := (bM M)) (c := 0) (i := 4) hm (lm_o hL) hL.1 (wM (by omega)) rfl rfl rfl (fun m3 hm3 => ?_)
    exact r_some (qP_i (qI_i rfl) (qM_i hm3))
def p_X2_byteAt (S : zP) (a1 : Int) : Option Int :=
zlt (S 0 4) fun v1 =>
if v1 ≤ a1 then (some ((-1)))
else ((pald S 4 300 a1).bind fun v3 =>
some (v3))
set_option maxHeartbeats 4000000 in
theorem rf_X2_byteAt {g : zGd} {M : Nat} {m0 : zMm} (hL : pLM g (zR m0) M) {m : zMm} (hm : pOk (bT M) m0 m) {pa1 : Int} {a1 : Int32} (ea1 : pa1 = a1.toInt) : pRf qI (p_X2_byteAt (pI (bT M) m) pa1) (f_X2_byteAt g m (some ((bT M).1 + 0)) a1) := by
  subst ea1
  unfold p_X2_byteAt f_X2_byteAt
  refine r_gi (B := (bT M)) (c := 0) (i := 4) (lm_o hL) rfl rfl (fun v1 => ?_)
  refine r_ite (pc_le rfl rfl) ?_ ?_
  · exact r_some (qI_i (eI (-1 : Int32) (by decide)))
  · refine r_gr (d := 4) hm (lm_o hL) (lm_f3 hL) ?_
    refine r_ald (lm_k4 hL) rfl (fun _ => rfl) (fun v3 => ?_)
    exact r_some (qI_i rfl)
def p_X2_isFigure (a0 : Int) : Option Int :=
if a0 < 48 then (some (0))
else (if 57 < a0 then (some (0))
else (some (1)))
set_option maxHeartbeats 4000000 in
theorem rf_X2_isFigure {pa0 : Int} {a0 : Int32} (ea0 : pa0 = a0.toInt) : pRf qI (p_X2_isFigure pa0) (f_X2_isFigure a0) := by
  subst ea0
  unfold p_X2_isFigure f_X2_isFigure
  refine r_ite (pc_lt rfl (eI (48 : Int32) (by decide))) ?_ ?_
  · exact r_some (qI_i (eI (0 : Int32) (by decide)))
  · refine r_ite (pc_lt (eI (57 : Int32) (by decide)) rfl) ?_ ?_
    · exact r_some (qI_i (eI (0 : Int32) (by decide)))
    · exact r_some (qI_i (eI (1 : Int32) (by decide)))
def p_X2_isLetterByte (a0 : Int) : Option Int :=
zEx (σ := Unit) (if a0 < 97 then (some (.inr ()))
else (if a0 ≤ 122 then (some (.inl 1))
else (some (.inr ())))) fun _ =>
if a0 < 65 then (some (0))
else (if 90 < a0 then (some (0))
else (some (1)))
set_option maxHeartbeats 4000000 in
theorem rf_X2_isLetterByte {pa0 : Int} {a0 : Int32} (ea0 : pa0 = a0.toInt) : pRf qI (p_X2_isLetterByte pa0) (f_X2_isLetterByte a0) := by
  subst ea0
  unfold p_X2_isLetterByte f_X2_isLetterByte
  refine r_ex (Q := qI) (R := qU) ?_ ?_
  · refine r_ite (pc_lt rfl (eI (97 : Int32) (by decide))) ?_ ?_
    · exact r_some (qS_r qU_i)
    · refine r_ite (pc_le rfl (eI (122 : Int32) (by decide))) ?_ ?_
      · exact r_some (qS_l (qI_i (eI (1 : Int32) (by decide))))
      · exact r_some (qS_r qU_i)
  rintro _ _ _
  refine r_ite (pc_lt rfl (eI (65 : Int32) (by decide))) ?_ ?_
  · exact r_some (qI_i (eI (0 : Int32) (by decide)))
  · refine r_ite (pc_lt (eI (90 : Int32) (by decide)) rfl) ?_ ?_
    · exact r_some (qI_i (eI (0 : Int32) (by decide)))
    · exact r_some (qI_i (eI (1 : Int32) (by decide)))
def p_X2_isSign (a0 : Int) : Option Int :=
if a0 = 35 then (some (1))
else (if a0 = 40 then (some (1))
else (if a0 = 41 then (some (1))
else (if a0 = 42 then (some (1))
else (if a0 = 43 then (some (1))
else (if a0 = 45 then (some (1))
else (if a0 = 47 then (some (1))
else (if a0 = 58 then (some (1))
else (if a0 = 59 then (some (1))
else (if a0 = 60 then (some (1))
else (if a0 = 61 then (some (1))
else (if a0 = 62 then (some (1))
else (some (0)))))))))))))
set_option maxHeartbeats 4000000 in
theorem rf_X2_isSign {pa0 : Int} {a0 : Int32} (ea0 : pa0 = a0.toInt) : pRf qI (p_X2_isSign pa0) (f_X2_isSign a0) := by
  subst ea0
  unfold p_X2_isSign f_X2_isSign
  refine r_ite (pc_eq rfl (eI (35 : Int32) (by decide))) ?_ ?_
  · exact r_some (qI_i (eI (1 : Int32) (by decide)))
  · refine r_ite (pc_eq rfl (eI (40 : Int32) (by decide))) ?_ ?_
    · exact r_some (qI_i (eI (1 : Int32) (by decide)))
    · refine r_ite (pc_eq rfl (eI (41 : Int32) (by decide))) ?_ ?_
      · exact r_some (qI_i (eI (1 : Int32) (by decide)))
      · refine r_ite (pc_eq rfl (eI (42 : Int32) (by decide))) ?_ ?_
        · exact r_some (qI_i (eI (1 : Int32) (by decide)))
        · refine r_ite (pc_eq rfl (eI (43 : Int32) (by decide))) ?_ ?_
          · exact r_some (qI_i (eI (1 : Int32) (by decide)))
          · refine r_ite (pc_eq rfl (eI (45 : Int32) (by decide))) ?_ ?_
            · exact r_some (qI_i (eI (1 : Int32) (by decide)))
            · refine r_ite (pc_eq rfl (eI (47 : Int32) (by decide))) ?_ ?_
              · exact r_some (qI_i (eI (1 : Int32) (by decide)))
              · refine r_ite (pc_eq rfl (eI (58 : Int32) (by decide))) ?_ ?_
                · exact r_some (qI_i (eI (1 : Int32) (by decide)))
                · refine r_ite (pc_eq rfl (eI (59 : Int32) (by decide))) ?_ ?_
                  · exact r_some (qI_i (eI (1 : Int32) (by decide)))
                  · refine r_ite (pc_eq rfl (eI (60 : Int32) (by decide))) ?_ ?_
                    · exact r_some (qI_i (eI (1 : Int32) (by decide)))
                    · refine r_ite (pc_eq rfl (eI (61 : Int32) (by decide))) ?_ ?_
                      · exact r_some (qI_i (eI (1 : Int32) (by decide)))
                      · refine r_ite (pc_eq rfl (eI (62 : Int32) (by decide))) ?_ ?_
                        · exact r_some (qI_i (eI (1 : Int32) (by decide)))
                        · exact r_some (qI_i (eI (0 : Int32) (by decide)))
def pb_X2_nextToken_0  : zP → Option (zP ⊕ zP) := fun S4 =>
zlt (S4 0 7) fun v5 =>
(p_X2_byteAt S4 v5).bind fun v6 =>
zEx (σ := Unit) (if v6 = 32 then (some (.inr ()))
else (zlt (S4 0 7) fun v8 =>
(p_X2_byteAt S4 v8).bind fun v9 =>
if v9 = 10 then (some (.inr ()))
else (some (.inl (.inl S4))))) fun _ =>
zlt (S4 0 7) fun v10 =>
p32 (v10 + 1) fun x1 =>
zlt (pup S4 0 7 x1) fun S11 =>
some (.inr S11)
set_option maxHeartbeats 4000000 in
theorem rb_X2_nextToken_0 {g : zGd} {M : Nat} {m0 : zMm} (hL : pLM g (zR m0) M)  : ∀ s t, (qM (bT M) m0) s t → pRf (qS (qM (bT M) m0) (qM (bT M) m0)) (pb_X2_nextToken_0 s) (b_X2_nextToken_0 g (some ((bT M).1 + 0)) t) := by
  rintro S4 m4 ⟨em4, hm4⟩
  change S4 = pI (bT M) m4 at em4; subst em4
  unfold pb_X2_nextToken_0 b_X2_nextToken_0
  try dsimp only
  refine r_gi (B := (bT M)) (c := 0) (i := 7) (lm_o hL) rfl rfl (fun v5 => ?_)
  refine r_bind (A := qI) (r_rc (B := (bT M)) (c := 0) (lm_o hL) (rf_X2_byteAt hL hm4 rfl)) ?_
  rintro pv6 v6 ev6
  change pv6 = v6.toInt at ev6; subst ev6
  refine r_ex (Q := (qS (qM (bT M) m0) (qM (bT M) m0))) (R := qU) ?_ ?_
  · refine r_ite (pc_eq rfl (eI (32 : Int32) (by decide))) ?_ ?_
    · exact r_some (qS_r qU_i)
    · refine r_gi (B := (bT M)) (c := 0) (i := 7) (lm_o hL) rfl rfl (fun v8 => ?_)
      refine r_bind (A := qI) (r_rc (B := (bT M)) (c := 0) (lm_o hL) (rf_X2_byteAt hL hm4 rfl)) ?_
      rintro pv9 v9 ev9
      change pv9 = v9.toInt at ev9; subst ev9
      refine r_ite (pc_eq rfl (eI (10 : Int32) (by decide))) ?_ ?_
      · exact r_some (qS_r qU_i)
      · exact r_some (qS_l (qS_l (qM_i hm4)))
  rintro _ _ _
  refine r_gi (B := (bT M)) (c := 0) (i := 7) (lm_o hL) rfl rfl (fun v10 => ?_)
  refine r_p32 (px_add (px_v _) (px_n (1 : Int32) (by decide))) ?_
  refine r_pi (B := (bT M)) (c := 0) (i := 7) hm4 (lm_o hL) hL.1 (wT (by omega)) rfl rfl rfl (fun m11 hm11 => ?_)
  exact r_some (qS_r (qM_i hm11))
def pb_X2_nextToken_168  : zP → Option (zP ⊕ zP) := fun S37 =>
zlt (S37 0 7) fun v38 =>
(p_X2_byteAt S37 v38).bind fun v39 =>
(p_X2_isLetterByte v39).bind fun v40 =>
if v40 = 0 then (some (.inl S37))
else (zlt (S37 0 11) fun w41 =>
((zlt (pjshr w41 48) fun x1 =>
if x1 = 0 then (zlt (S37 0 11) fun w44 =>
zlt (S37 0 7) fun v45 =>
(p_X2_byteAt S37 v45).bind fun v46 =>
zlt (pjshl w44 8) fun x2 =>
zlt (pjor x2 v46) fun x3 =>
some (x3))
else (some (1152921504606846976)) : Option Int)).bind fun w43 =>
zlt (pup S37 0 11 w43) fun S47 =>
zlt (S47 0 7) fun v48 =>
p32 (v48 + 1) fun x4 =>
zlt (pup S47 0 7 x4) fun S49 =>
some (.inr S49))
set_option maxHeartbeats 4000000 in
theorem rb_X2_nextToken_168 {g : zGd} {M : Nat} {m0 : zMm} (hL : pLM g (zR m0) M)  : ∀ s t, (qM (bT M) m0) s t → pRf (qS (qM (bT M) m0) (qM (bT M) m0)) (pb_X2_nextToken_168 s) (b_X2_nextToken_168 g (some ((bT M).1 + 0)) t) := by
  rintro S37 m37 ⟨em37, hm37⟩
  change S37 = pI (bT M) m37 at em37; subst em37
  unfold pb_X2_nextToken_168 b_X2_nextToken_168
  try dsimp only
  refine r_gi (B := (bT M)) (c := 0) (i := 7) (lm_o hL) rfl rfl (fun v38 => ?_)
  refine r_bind (A := qI) (r_rc (B := (bT M)) (c := 0) (lm_o hL) (rf_X2_byteAt hL hm37 rfl)) ?_
  rintro pv39 v39 ev39
  change pv39 = v39.toInt at ev39; subst ev39
  refine r_bind (A := qI) (rf_X2_isLetterByte rfl) ?_
  rintro pv40 v40 ev40
  change pv40 = v40.toInt at ev40; subst ev40
  refine r_ite (pc_eq rfl (eI (0 : Int32) (by decide))) ?_ ?_
  · exact r_some (qS_l (qM_i hm37))
  · refine r_gj (B := (bT M)) (c := 0) (i := 11) (lm_o hL) rfl rfl (fun w41 => ?_)
    refine r_bind (A := qJ) ?_ ?_
    · refine r_x64 (pe_lshr rfl (eI (48 : Int32) (by decide))) ?_
      refine r_ite (pcj_eq rfl (eJ (0 : Int64) (by decide))) ?_ ?_
      · refine r_gj (B := (bT M)) (c := 0) (i := 11) (lm_o hL) rfl rfl (fun w44 => ?_)
        refine r_gi (B := (bT M)) (c := 0) (i := 7) (lm_o hL) rfl rfl (fun v45 => ?_)
        refine r_bind (A := qI) (r_rc (B := (bT M)) (c := 0) (lm_o hL) (rf_X2_byteAt hL hm37 rfl)) ?_
        rintro pv46 v46 ev46
        change pv46 = v46.toInt at ev46; subst ev46
        refine r_x64 (pe_lshl rfl (eI (8 : Int32) (by decide))) ?_
        refine r_x64 (pe_lor rfl (pe_i64 _)) ?_
        exact r_some (qJ_i rfl)
      · exact r_some (qJ_i (eJ (1152921504606846976 : Int64) (by decide)))
    rintro pw43 w43 ew43
    change pw43 = w43.toInt at ew43; subst ew43
    refine r_pj (B := (bT M)) (c := 0) (i := 11) hm37 (lm_o hL) hL.1 (wT (by omega)) rfl rfl rfl (fun m47 hm47 => ?_)
    refine r_gi (B := (bT M)) (c := 0) (i := 7) (lm_o hL) rfl rfl (fun v48 => ?_)
    refine r_p32 (px_add (px_v _) (px_n (1 : Int32) (by decide))) ?_
    refine r_pi (B := (bT M)) (c := 0) (i := 7) hm47 (lm_o hL) hL.1 (wT (by omega)) rfl rfl rfl (fun m49 hm49 => ?_)
    exact r_some (qS_r (qM_i hm49))
def pb_X2_nextToken_85  : zP → Option (zP ⊕ zP) := fun S55 =>
zlt (S55 0 7) fun v56 =>
(p_X2_byteAt S55 v56).bind fun v57 =>
(p_X2_isFigure v57).bind fun v58 =>
if v58 = 0 then (some (.inl S55))
else (zlt (S55 0 10) fun v59 =>
((if v59 ≤ 99999 then (zlt (S55 0 10) fun v62 =>
zlt (S55 0 7) fun v63 =>
(p_X2_byteAt S55 v63).bind fun v64 =>
p32 (((10 * v62) + v64) - 48) fun x1 =>
some (x1))
else (zlt (S55 0 10) fun v65 =>
some (v65)) : Option Int)).bind fun v61 =>
zlt (pup S55 0 10 v61) fun S66 =>
zlt (S66 0 7) fun v67 =>
p32 (v67 + 1) fun x2 =>
zlt (pup S66 0 7 x2) fun S68 =>
some (.inr S68))
set_option maxHeartbeats 4000000 in
theorem rb_X2_nextToken_85 {g : zGd} {M : Nat} {m0 : zMm} (hL : pLM g (zR m0) M)  : ∀ s t, (qM (bT M) m0) s t → pRf (qS (qM (bT M) m0) (qM (bT M) m0)) (pb_X2_nextToken_85 s) (b_X2_nextToken_85 g (some ((bT M).1 + 0)) t) := by
  rintro S55 m55 ⟨em55, hm55⟩
  change S55 = pI (bT M) m55 at em55; subst em55
  unfold pb_X2_nextToken_85 b_X2_nextToken_85
  try dsimp only
  refine r_gi (B := (bT M)) (c := 0) (i := 7) (lm_o hL) rfl rfl (fun v56 => ?_)
  refine r_bind (A := qI) (r_rc (B := (bT M)) (c := 0) (lm_o hL) (rf_X2_byteAt hL hm55 rfl)) ?_
  rintro pv57 v57 ev57
  change pv57 = v57.toInt at ev57; subst ev57
  refine r_bind (A := qI) (rf_X2_isFigure rfl) ?_
  rintro pv58 v58 ev58
  change pv58 = v58.toInt at ev58; subst ev58
  refine r_ite (pc_eq rfl (eI (0 : Int32) (by decide))) ?_ ?_
  · exact r_some (qS_l (qM_i hm55))
  · refine r_gi (B := (bT M)) (c := 0) (i := 10) (lm_o hL) rfl rfl (fun v59 => ?_)
    refine r_bind (A := qI) ?_ ?_
    · refine r_ite (pc_le rfl (eI (99999 : Int32) (by decide))) ?_ ?_
      · refine r_gi (B := (bT M)) (c := 0) (i := 10) (lm_o hL) rfl rfl (fun v62 => ?_)
        refine r_gi (B := (bT M)) (c := 0) (i := 7) (lm_o hL) rfl rfl (fun v63 => ?_)
        refine r_bind (A := qI) (r_rc (B := (bT M)) (c := 0) (lm_o hL) (rf_X2_byteAt hL hm55 rfl)) ?_
        rintro pv64 v64 ev64
        change pv64 = v64.toInt at ev64; subst ev64
        refine r_p32 (px_sub (px_add (px_mul (px_n (10 : Int32) (by decide)) (px_v _)) (px_v _)) (px_n (48 : Int32) (by decide))) ?_
        exact r_some (qI_i rfl)
      · refine r_gi (B := (bT M)) (c := 0) (i := 10) (lm_o hL) rfl rfl (fun v65 => ?_)
        exact r_some (qI_i rfl)
    rintro pv61 v61 ev61
    change pv61 = v61.toInt at ev61; subst ev61
    refine r_pi (B := (bT M)) (c := 0) (i := 10) hm55 (lm_o hL) hL.1 (wT (by omega)) rfl rfl rfl (fun m66 hm66 => ?_)
    refine r_gi (B := (bT M)) (c := 0) (i := 7) (lm_o hL) rfl rfl (fun v67 => ?_)
    refine r_p32 (px_add (px_v _) (px_n (1 : Int32) (by decide))) ?_
    refine r_pi (B := (bT M)) (c := 0) (i := 7) hm66 (lm_o hL) hL.1 (wT (by omega)) rfl rfl rfl (fun m68 hm68 => ?_)
    exact r_some (qS_r (qM_i hm68))
def p_X2_nextToken (S : zP) : Option zP :=
(zLoop pb_X2_nextToken_0 zFuel S).bind fun S2 =>
zlt (S2 0 7) fun v12 =>
zlt (pup S2 0 8 v12) fun S13 =>
zlt (S13 0 7) fun v14 =>
(p_X2_byteAt S13 v14).bind fun v15 =>
if 0 ≤ v15 then ((p_X2_isFigure v15).bind fun v16 =>
if v16 = 0 then ((p_X2_isLetterByte v15).bind fun v17 =>
if v17 = 0 then ((p_X2_isSign v15).bind fun v18 =>
((if v18 = 0 then (some (3))
else (some (v15)) : Option Int)).bind fun v20 =>
zlt (pup S13 0 9 v20) fun S21 =>
zlt (S21 0 7) fun v22 =>
p32 (v22 + 1) fun x1 =>
zlt (pup S21 0 7 x1) fun S23 =>
zEx (σ := Unit) (if v15 = 60 then (some (.inr ()))
else (if v15 = 62 then (some (.inr ()))
else (some (.inl S23)))) fun _ =>
zlt (S23 0 7) fun v25 =>
(p_X2_byteAt S23 v25).bind fun v26 =>
if v26 = 61 then (((if v15 = 60 then (some (4))
else (some (5)) : Option Int)).bind fun v28 =>
zlt (pup S23 0 9 v28) fun S29 =>
zlt (S29 0 7) fun v30 =>
p32 (v30 + 1) fun x2 =>
zlt (pup S29 0 7 x2) fun S31 =>
some (S31))
else (some (S23)))
else (zlt (pup S13 0 9 2) fun S32 =>
zlt (pup S32 0 11 0) fun S33 =>
(zLoop pb_X2_nextToken_168 zFuel S33).bind fun S35 =>
some (S35)))
else (zlt (pup S13 0 9 1) fun S50 =>
zlt (pup S50 0 10 0) fun S51 =>
(zLoop pb_X2_nextToken_85 zFuel S51).bind fun S53 =>
some (S53)))
else (zlt (pup S13 0 9 0) fun S69 =>
some (S69))
set_option maxHeartbeats 4000000 in
theorem rf_X2_nextToken {g : zGd} {M : Nat} {m0 : zMm} (hL : pLM g (zR m0) M) {m : zMm} (hm : pOk (bT M) m0 m) : pRf (qM (bT M) m0) (p_X2_nextToken (pI (bT M) m)) (f_X2_nextToken g m (some ((bT M).1 + 0))) := by
  unfold p_X2_nextToken f_X2_nextToken
  refine r_bind (A := (qM (bT M) m0)) (r_loop (rb_X2_nextToken_0 hL) zFuel _ _ (qM_i hm)) ?_
  rintro S2 m2 ⟨em2, hm2⟩
  change S2 = pI (bT M) m2 at em2; subst em2
  refine r_gi (B := (bT M)) (c := 0) (i := 7) (lm_o hL) rfl rfl (fun v12 => ?_)
  refine r_pi (B := (bT M)) (c := 0) (i := 8) hm2 (lm_o hL) hL.1 (wT (by omega)) rfl rfl rfl (fun m13 hm13 => ?_)
  refine r_gi (B := (bT M)) (c := 0) (i := 7) (lm_o hL) rfl rfl (fun v14 => ?_)
  refine r_bind (A := qI) (r_rc (B := (bT M)) (c := 0) (lm_o hL) (rf_X2_byteAt hL hm13 rfl)) ?_
  rintro pv15 v15 ev15
  change pv15 = v15.toInt at ev15; subst ev15
  refine r_ite (pc_le (eI (0 : Int32) (by decide)) rfl) ?_ ?_
  · refine r_bind (A := qI) (rf_X2_isFigure rfl) ?_
    rintro pv16 v16 ev16
    change pv16 = v16.toInt at ev16; subst ev16
    refine r_ite (pc_eq rfl (eI (0 : Int32) (by decide))) ?_ ?_
    · refine r_bind (A := qI) (rf_X2_isLetterByte rfl) ?_
      rintro pv17 v17 ev17
      change pv17 = v17.toInt at ev17; subst ev17
      refine r_ite (pc_eq rfl (eI (0 : Int32) (by decide))) ?_ ?_
      · refine r_bind (A := qI) (rf_X2_isSign rfl) ?_
        rintro pv18 v18 ev18
        change pv18 = v18.toInt at ev18; subst ev18
        refine r_bind (A := qI) ?_ ?_
        · refine r_ite (pc_eq rfl (eI (0 : Int32) (by decide))) ?_ ?_
          · exact r_some (qI_i (eI (3 : Int32) (by decide)))
          · exact r_some (qI_i rfl)
        rintro pv20 v20 ev20
        change pv20 = v20.toInt at ev20; subst ev20
        refine r_pi (B := (bT M)) (c := 0) (i := 9) hm13 (lm_o hL) hL.1 (wT (by omega)) rfl rfl rfl (fun m21 hm21 => ?_)
        refine r_gi (B := (bT M)) (c := 0) (i := 7) (lm_o hL) rfl rfl (fun v22 => ?_)
        refine r_p32 (px_add (px_v _) (px_n (1 : Int32) (by decide))) ?_
        refine r_pi (B := (bT M)) (c := 0) (i := 7) hm21 (lm_o hL) hL.1 (wT (by omega)) rfl rfl rfl (fun m23 hm23 => ?_)
        refine r_ex (Q := (qM (bT M) m0)) (R := qU) ?_ ?_
        · refine r_ite (pc_eq rfl (eI (60 : Int32) (by decide))) ?_ ?_
          · exact r_some (qS_r qU_i)
          · refine r_ite (pc_eq rfl (eI (62 : Int32) (by decide))) ?_ ?_
            · exact r_some (qS_r qU_i)
            · exact r_some (qS_l (qM_i hm23))
        rintro _ _ _
        refine r_gi (B := (bT M)) (c := 0) (i := 7) (lm_o hL) rfl rfl (fun v25 => ?_)
        refine r_bind (A := qI) (r_rc (B := (bT M)) (c := 0) (lm_o hL) (rf_X2_byteAt hL hm23 rfl)) ?_
        rintro pv26 v26 ev26
        change pv26 = v26.toInt at ev26; subst ev26
        refine r_ite (pc_eq rfl (eI (61 : Int32) (by decide))) ?_ ?_
        · refine r_bind (A := qI) ?_ ?_
          · refine r_ite (pc_eq rfl (eI (60 : Int32) (by decide))) ?_ ?_
            · exact r_some (qI_i (eI (4 : Int32) (by decide)))
            · exact r_some (qI_i (eI (5 : Int32) (by decide)))
          rintro pv28 v28 ev28
          change pv28 = v28.toInt at ev28; subst ev28
          refine r_pi (B := (bT M)) (c := 0) (i := 9) hm23 (lm_o hL) hL.1 (wT (by omega)) rfl rfl rfl (fun m29 hm29 => ?_)
          refine r_gi (B := (bT M)) (c := 0) (i := 7) (lm_o hL) rfl rfl (fun v30 => ?_)
          refine r_p32 (px_add (px_v _) (px_n (1 : Int32) (by decide))) ?_
          refine r_pi (B := (bT M)) (c := 0) (i := 7) hm29 (lm_o hL) hL.1 (wT (by omega)) rfl rfl rfl (fun m31 hm31 => ?_)
          exact r_some (qM_i hm31)
        · exact r_some (qM_i hm23)
      · refine r_pi (B := (bT M)) (c := 0) (i := 9) hm13 (lm_o hL) hL.1 (wT (by omega)) rfl rfl (eI (2 : Int32) (by decide)) (fun m32 hm32 => ?_)
        refine r_pj (B := (bT M)) (c := 0) (i := 11) hm32 (lm_o hL) hL.1 (wT (by omega)) rfl rfl (eJ (0 : Int64) (by decide)) (fun m33 hm33 => ?_)
        refine r_bind (A := (qM (bT M) m0)) (r_loop (rb_X2_nextToken_168 hL) zFuel _ _ (qM_i hm33)) ?_
        rintro S35 m35 ⟨em35, hm35⟩
        change S35 = pI (bT M) m35 at em35; subst em35
        exact r_some (qM_i hm35)
    · refine r_pi (B := (bT M)) (c := 0) (i := 9) hm13 (lm_o hL) hL.1 (wT (by omega)) rfl rfl (eI (1 : Int32) (by decide)) (fun m50 hm50 => ?_)
      refine r_pi (B := (bT M)) (c := 0) (i := 10) hm50 (lm_o hL) hL.1 (wT (by omega)) rfl rfl (eI (0 : Int32) (by decide)) (fun m51 hm51 => ?_)
      refine r_bind (A := (qM (bT M) m0)) (r_loop (rb_X2_nextToken_85 hL) zFuel _ _ (qM_i hm51)) ?_
      rintro S53 m53 ⟨em53, hm53⟩
      change S53 = pI (bT M) m53 at em53; subst em53
      exact r_some (qM_i hm53)
  · refine r_pi (B := (bT M)) (c := 0) (i := 9) hm13 (lm_o hL) hL.1 (wT (by omega)) rfl rfl (eI (0 : Int32) (by decide)) (fun m69 hm69 => ?_)
    exact r_some (qM_i hm69)
def p_X2_figure (S : zP) (a1 : Int) (a2 : Int) (a3 : Int) : Option (Int × zP) :=
zlt (S 0 9) fun v1 =>
if v1 = 1 then (zlt (S 0 10) fun v2 =>
(p_X2_isIn v2 a2 a3).bind fun v3 =>
if v3 = 0 then (some ((2, S)))
else (zlt (S 0 10) fun v5 =>
(past S 3 2724 a1 v5).bind fun S6 =>
(p_X2_nextToken S6).bind fun S7 =>
some ((0, S7))))
else (some ((1, S)))
set_option maxHeartbeats 4000000 in
theorem rf_X2_figure {g : zGd} {M : Nat} {m0 : zMm} (hL : pLM g (zR m0) M) {m : zMm} (hm : pOk (bT M) m0 m) {pa1 : Int} {a1 : Int32} (ea1 : pa1 = a1.toInt) {pa2 : Int} {a2 : Int32} (ea2 : pa2 = a2.toInt) {pa3 : Int} {a3 : Int32} (ea3 : pa3 = a3.toInt) : pRf (qP qI (qM (bT M) m0)) (p_X2_figure (pI (bT M) m) pa1 pa2 pa3) (f_X2_figure g m (some ((bT M).1 + 0)) a1 a2 a3) := by
  subst ea1
  subst ea2
  subst ea3
  unfold p_X2_figure f_X2_figure
  refine r_gi (B := (bT M)) (c := 0) (i := 9) (lm_o hL) rfl rfl (fun v1 => ?_)
  refine r_ite (pc_eq rfl (eI (1 : Int32) (by decide))) ?_ ?_
  · refine r_gi (B := (bT M)) (c := 0) (i := 10) (lm_o hL) rfl rfl (fun v2 => ?_)
    refine r_bind (A := qI) (rf_X2_isIn rfl rfl rfl) ?_
    rintro pv3 v3 ev3
    change pv3 = v3.toInt at ev3; subst ev3
    refine r_ite (pc_eq rfl (eI (0 : Int32) (by decide))) ?_ ?_
    · exact r_some (qP_i (qI_i (eI (2 : Int32) (by decide))) (qM_i hm))
    · refine r_gr (d := 3) hm (lm_o hL) (lm_f2 hL) ?_
      refine r_gi (B := (bT M)) (c := 0) (i := 10) (lm_o hL) rfl rfl (fun v5 => ?_)
      refine r_ast hm (lm_k3 hL) hL.1 (wT (by omega)) rfl rfl (fun _ => rfl) (fun m6 hm6 => ?_)
      refine r_bind (A := (qM (bT M) m0)) (r_rc (B := (bT M)) (c := 0) (lm_o hL) (rf_X2_nextToken hL hm6)) ?_
      rintro S7 m7 ⟨em7, hm7⟩
      change S7 = pI (bT M) m7 at em7; subst em7
      exact r_some (qP_i (qI_i (eI (0 : Int32) (by decide))) (qM_i hm7))
  · exact r_some (qP_i (qI_i (eI (1 : Int32) (by decide))) (qM_i hm))
def p_X2_emit (S : zP) (a1 : Int) (a2 : Int) : Option zP :=
zlt (S 0 12) fun v2 =>
zlt (S 0 13) fun v3 =>
p32 ((v2 + 73) + (2 * v3)) fun x1 =>
(past S 3 2724 x1 a1).bind fun S4 =>
zlt (S4 0 12) fun v6 =>
zlt (S4 0 13) fun v7 =>
p32 (((v6 + 73) + (2 * v7)) + 1) fun x2 =>
(past S4 3 2724 x2 a2).bind fun S8 =>
zlt (S8 0 13) fun v9 =>
p32 (v9 + 1) fun x3 =>
zlt (pup S8 0 13 x3) fun S10 =>
some (S10)
set_option maxHeartbeats 4000000 in
theorem rf_X2_emit {g : zGd} {M : Nat} {m0 : zMm} (hL : pLM g (zR m0) M) {m : zMm} (hm : pOk (bT M) m0 m) {pa1 : Int} {a1 : Int32} (ea1 : pa1 = a1.toInt) {pa2 : Int} {a2 : Int32} (ea2 : pa2 = a2.toInt) : pRf (qM (bT M) m0) (p_X2_emit (pI (bT M) m) pa1 pa2) (f_X2_emit g m (some ((bT M).1 + 0)) a1 a2) := by
  subst ea1
  subst ea2
  unfold p_X2_emit f_X2_emit
  refine r_gr (d := 3) hm (lm_o hL) (lm_f2 hL) ?_
  refine r_gi (B := (bT M)) (c := 0) (i := 12) (lm_o hL) rfl rfl (fun v2 => ?_)
  refine r_gi (B := (bT M)) (c := 0) (i := 13) (lm_o hL) rfl rfl (fun v3 => ?_)
  refine r_p32 (px_add (px_add (px_v _) (px_n (73 : Int32) (by decide))) (px_mul (px_n (2 : Int32) (by decide)) (px_v _))) ?_
  refine r_ast hm (lm_k3 hL) hL.1 (wT (by omega)) rfl rfl (fun _ => rfl) (fun m4 hm4 => ?_)
  refine r_gr (d := 3) hm4 (lm_o hL) (lm_f2 hL) ?_
  refine r_gi (B := (bT M)) (c := 0) (i := 12) (lm_o hL) rfl rfl (fun v6 => ?_)
  refine r_gi (B := (bT M)) (c := 0) (i := 13) (lm_o hL) rfl rfl (fun v7 => ?_)
  refine r_p32 (px_add (px_add (px_add (px_v _) (px_n (73 : Int32) (by decide))) (px_mul (px_n (2 : Int32) (by decide)) (px_v _))) (px_n (1 : Int32) (by decide))) ?_
  refine r_ast hm4 (lm_k3 hL) hL.1 (wT (by omega)) rfl rfl (fun _ => rfl) (fun m8 hm8 => ?_)
  refine r_gi (B := (bT M)) (c := 0) (i := 13) (lm_o hL) rfl rfl (fun v9 => ?_)
  refine r_p32 (px_add (px_v _) (px_n (1 : Int32) (by decide))) ?_
  refine r_pi (B := (bT M)) (c := 0) (i := 13) hm8 (lm_o hL) hL.1 (wT (by omega)) rfl rfl rfl (fun m10 hm10 => ?_)
  exact r_some (qM_i hm10)
def pb_X2_openAt_7 (S : zP) : Int → Option (Int ⊕ Int) := fun v6 =>
if v6 < 0 then (some (.inl v6))
else ((pald S 5 160 v6).bind fun v8 =>
if 40 ≤ v8 then (some (.inl v6))
else (p32 (v6 + (-1)) fun v9 =>
some (.inr v9)))
set_option maxHeartbeats 4000000 in
theorem rb_X2_openAt_7 {g : zGd} {M : Nat} {m0 : zMm} (hL : pLM g (zR m0) M) {m : zMm} (hm : pOk (bT M) m0 m) : ∀ s t, qI s t → pRf (qS qI qI) (pb_X2_openAt_7 (pI (bT M) m) s) (b_X2_openAt_7 g m (some ((bT M).1 + 0)) t) := by
  rintro pv6 v6 ev6
  change pv6 = v6.toInt at ev6; subst ev6
  unfold pb_X2_openAt_7 b_X2_openAt_7
  try dsimp only
  refine r_ite (pc_lt rfl (eI (0 : Int32) (by decide))) ?_ ?_
  · exact r_some (qS_l (qI_i rfl))
  · refine r_gr (d := 5) hm (lm_o hL) (lm_f15 hL) ?_
    refine r_ald (lm_k5 hL) rfl (fun _ => rfl) (fun v8 => ?_)
    refine r_ite (pc_le (eI (40 : Int32) (by decide)) rfl) ?_ ?_
    · exact r_some (qS_l (qI_i rfl))
    · refine r_lt32 (px_add (px_v _) (px_n (-1 : Int32) (by decide))) (fun v9 => ?_)
      exact r_some (qS_r (qI_i rfl))
def p_X2_openAt (S : zP) : Option Int :=
zlt (S 0 16) fun v1 =>
p32 (v1 - 1) fun v2 =>
(zLoop (pb_X2_openAt_7 S) zFuel v2).bind fun v4 =>
some (v4)
set_option maxHeartbeats 4000000 in
theorem rf_X2_openAt {g : zGd} {M : Nat} {m0 : zMm} (hL : pLM g (zR m0) M) {m : zMm} (hm : pOk (bT M) m0 m) : pRf qI (p_X2_openAt (pI (bT M) m)) (f_X2_openAt g m (some ((bT M).1 + 0))) := by
  unfold p_X2_openAt f_X2_openAt
  refine r_gi (B := (bT M)) (c := 0) (i := 16) (lm_o hL) rfl rfl (fun v1 => ?_)
  refine r_lt32 (px_sub (px_v _) (px_n (1 : Int32) (by decide))) (fun v2 => ?_)
  refine r_bind (A := qI) (r_loop (rb_X2_openAt_7 hL hm) zFuel _ _ (qI_i rfl)) ?_
  rintro pv4 v4 ev4
  change pv4 = v4.toInt at ev4; subst ev4
  exact r_some (qI_i rfl)
def p_X2_openNow (S : zP) : Option Int :=
(p_X2_openAt S).bind fun v1 =>
if 0 ≤ v1 then ((p_X2_openAt S).bind fun v3 =>
(pald S 5 160 v3).bind fun v4 =>
some (v4))
else (some ((-1)))
set_option maxHeartbeats 4000000 in
theorem rf_X2_openNow {g : zGd} {M : Nat} {m0 : zMm} (hL : pLM g (zR m0) M) {m : zMm} (hm : pOk (bT M) m0 m) : pRf qI (p_X2_openNow (pI (bT M) m)) (f_X2_openNow g m (some ((bT M).1 + 0))) := by
  unfold p_X2_openNow f_X2_openNow
  refine r_bind (A := qI) (r_rc (B := (bT M)) (c := 0) (lm_o hL) (rf_X2_openAt hL hm)) ?_
  rintro pv1 v1 ev1
  change pv1 = v1.toInt at ev1; subst ev1
  refine r_ite (pc_le (eI (0 : Int32) (by decide)) rfl) ?_ ?_
  · refine r_gr (d := 5) hm (lm_o hL) (lm_f15 hL) ?_
    refine r_bind (A := qI) (r_rc (B := (bT M)) (c := 0) (lm_o hL) (rf_X2_openAt hL hm)) ?_
    rintro pv3 v3 ev3
    change pv3 = v3.toInt at ev3; subst ev3
    refine r_ald (lm_k5 hL) rfl (fun _ => rfl) (fun v4 => ?_)
    exact r_some (qI_i rfl)
  · exact r_some (qI_i (eI (-1 : Int32) (by decide)))
def p_X2_rank (a0 : Int) : Option Int :=
if a0 < 40 then (if a0 = 22 then (some (1))
else (if a0 = 21 then (some (2))
else (if a0 = 20 then (some (3))
else (if a0 < 10 then (if a0 < 8 then (if a0 < 6 then (some (7))
else (some (5)))
else (some (6)))
else (some (4))))))
else (some (0))
set_option maxHeartbeats 4000000 in
theorem rf_X2_rank {pa0 : Int} {a0 : Int32} (ea0 : pa0 = a0.toInt) : pRf qI (p_X2_rank pa0) (f_X2_rank a0) := by
  subst ea0
  unfold p_X2_rank f_X2_rank
  refine r_ite (pc_lt rfl (eI (40 : Int32) (by decide))) ?_ ?_
  · refine r_ite (pc_eq rfl (eI (22 : Int32) (by decide))) ?_ ?_
    · exact r_some (qI_i (eI (1 : Int32) (by decide)))
    · refine r_ite (pc_eq rfl (eI (21 : Int32) (by decide))) ?_ ?_
      · exact r_some (qI_i (eI (2 : Int32) (by decide)))
      · refine r_ite (pc_eq rfl (eI (20 : Int32) (by decide))) ?_ ?_
        · exact r_some (qI_i (eI (3 : Int32) (by decide)))
        · refine r_ite (pc_lt rfl (eI (10 : Int32) (by decide))) ?_ ?_
          · refine r_ite (pc_lt rfl (eI (8 : Int32) (by decide))) ?_ ?_
            · refine r_ite (pc_lt rfl (eI (6 : Int32) (by decide))) ?_ ?_
              · exact r_some (qI_i (eI (7 : Int32) (by decide)))
              · exact r_some (qI_i (eI (5 : Int32) (by decide)))
            · exact r_some (qI_i (eI (6 : Int32) (by decide)))
          · exact r_some (qI_i (eI (4 : Int32) (by decide)))
  · exact r_some (qI_i (eI (0 : Int32) (by decide)))
def p_X2_isAskAhead (S : zP) : Option Int :=
(p_X2_openNow S).bind fun v1 =>
if v1 = 41 then (zlt (S 0 16) fun v3 =>
p32 (v3 - 1) fun x1 =>
(pald S 5 160 x1).bind fun v4 =>
if 40 ≤ v4 then (some (1))
else (zlt (S 0 16) fun v6 =>
p32 (v6 - 1) fun x2 =>
(pald S 5 160 x2).bind fun v7 =>
(p_X2_rank v7).bind fun v8 =>
(p_X2_isIn v8 1 3).bind fun v9 =>
if v9 = 0 then (some (0))
else (some (1))))
else (some (0))
set_option maxHeartbeats 4000000 in
theorem rf_X2_isAskAhead {g : zGd} {M : Nat} {m0 : zMm} (hL : pLM g (zR m0) M) {m : zMm} (hm : pOk (bT M) m0 m) : pRf qI (p_X2_isAskAhead (pI (bT M) m)) (f_X2_isAskAhead g m (some ((bT M).1 + 0))) := by
  unfold p_X2_isAskAhead f_X2_isAskAhead
  refine r_bind (A := qI) (r_rc (B := (bT M)) (c := 0) (lm_o hL) (rf_X2_openNow hL hm)) ?_
  rintro pv1 v1 ev1
  change pv1 = v1.toInt at ev1; subst ev1
  refine r_ite (pc_eq rfl (eI (41 : Int32) (by decide))) ?_ ?_
  · refine r_gr (d := 5) hm (lm_o hL) (lm_f15 hL) ?_
    refine r_gi (B := (bT M)) (c := 0) (i := 16) (lm_o hL) rfl rfl (fun v3 => ?_)
    refine r_p32 (px_sub (px_v _) (px_n (1 : Int32) (by decide))) ?_
    refine r_ald (lm_k5 hL) rfl (fun _ => rfl) (fun v4 => ?_)
    refine r_ite (pc_le (eI (40 : Int32) (by decide)) rfl) ?_ ?_
    · exact r_some (qI_i (eI (1 : Int32) (by decide)))
    · refine r_gr (d := 5) hm (lm_o hL) (lm_f15 hL) ?_
      refine r_gi (B := (bT M)) (c := 0) (i := 16) (lm_o hL) rfl rfl (fun v6 => ?_)
      refine r_p32 (px_sub (px_v _) (px_n (1 : Int32) (by decide))) ?_
      refine r_ald (lm_k5 hL) rfl (fun _ => rfl) (fun v7 => ?_)
      refine r_bind (A := qI) (rf_X2_rank rfl) ?_
      rintro pv8 v8 ev8
      change pv8 = v8.toInt at ev8; subst ev8
      refine r_bind (A := qI) (rf_X2_isIn rfl (eI (1 : Int32) (by decide)) (eI (3 : Int32) (by decide))) ?_
      rintro pv9 v9 ev9
      change pv9 = v9.toInt at ev9; subst ev9
      refine r_ite (pc_eq rfl (eI (0 : Int32) (by decide))) ?_ ?_
      · exact r_some (qI_i (eI (0 : Int32) (by decide)))
      · exact r_some (qI_i (eI (1 : Int32) (by decide)))
  · exact r_some (qI_i (eI (0 : Int32) (by decide)))
def p_X2_isOf (S : zP) (a1 : Int) : Option Int :=
if a1 < 5 then (some (1))
else (if a1 = 5 then (zlt (S 0 14) fun v2 =>
if v2 = 0 then (some (1))
else (some (0)))
else (zlt (S 0 14) fun v1 =>
if v1 = 1 then (some (1))
else (some (0))))
set_option maxHeartbeats 4000000 in
theorem rf_X2_isOf {g : zGd} {M : Nat} {m0 : zMm} (hL : pLM g (zR m0) M) {m : zMm} (hm : pOk (bT M) m0 m) {pa1 : Int} {a1 : Int32} (ea1 : pa1 = a1.toInt) : pRf qI (p_X2_isOf (pI (bT M) m) pa1) (f_X2_isOf g m (some ((bT M).1 + 0)) a1) := by
  subst ea1
  unfold p_X2_isOf f_X2_isOf
  refine r_ite (pc_lt rfl (eI (5 : Int32) (by decide))) ?_ ?_
  · exact r_some (qI_i (eI (1 : Int32) (by decide)))
  · refine r_ite (pc_eq rfl (eI (5 : Int32) (by decide))) ?_ ?_
    · refine r_gi (B := (bT M)) (c := 0) (i := 14) (lm_o hL) rfl rfl (fun v2 => ?_)
      refine r_ite (pc_eq rfl (eI (0 : Int32) (by decide))) ?_ ?_
      · exact r_some (qI_i (eI (1 : Int32) (by decide)))
      · exact r_some (qI_i (eI (0 : Int32) (by decide)))
    · refine r_gi (B := (bT M)) (c := 0) (i := 14) (lm_o hL) rfl rfl (fun v1 => ?_)
      refine r_ite (pc_eq rfl (eI (1 : Int32) (by decide))) ?_ ?_
      · exact r_some (qI_i (eI (1 : Int32) (by decide)))
      · exact r_some (qI_i (eI (0 : Int32) (by decide)))
def p_X2_isWord (S : zP) (a1 : Int) : Option Int :=
zlt (S 0 9) fun v1 =>
if v1 = 2 then (zlt (S 0 11) fun w2 =>
if w2 = a1 then (some (1))
else (some (0)))
else (some (0))
set_option maxHeartbeats 4000000 in
theorem rf_X2_isWord {g : zGd} {M : Nat} {m0 : zMm} (hL : pLM g (zR m0) M) {m : zMm} (hm : pOk (bT M) m0 m) {pa1 : Int} {a1 : Int64} (ea1 : pa1 = a1.toInt) : pRf qI (p_X2_isWord (pI (bT M) m) pa1) (f_X2_isWord g m (some ((bT M).1 + 0)) a1) := by
  subst ea1
  unfold p_X2_isWord f_X2_isWord
  refine r_gi (B := (bT M)) (c := 0) (i := 9) (lm_o hL) rfl rfl (fun v1 => ?_)
  refine r_ite (pc_eq rfl (eI (2 : Int32) (by decide))) ?_ ?_
  · refine r_gj (B := (bT M)) (c := 0) (i := 11) (lm_o hL) rfl rfl (fun w2 => ?_)
    refine r_ite (pcj_eq rfl rfl) ?_ ?_
    · exact r_some (qI_i (eI (1 : Int32) (by decide)))
    · exact r_some (qI_i (eI (0 : Int32) (by decide)))
  · exact r_some (qI_i (eI (0 : Int32) (by decide)))
def p_X2_w2 (a0 : Int) (a1 : Int) : Option Int :=
zlt (pjshl a0 8) fun x1 =>
zlt (pjor x1 a1) fun x2 =>
some (x2)
set_option maxHeartbeats 4000000 in
theorem rf_X2_w2 {pa0 : Int} {a0 : Int32} (ea0 : pa0 = a0.toInt) {pa1 : Int} {a1 : Int32} (ea1 : pa1 = a1.toInt) : pRf qJ (p_X2_w2 pa0 pa1) (f_X2_w2 a0 a1) := by
  subst ea0
  subst ea1
  unfold p_X2_w2 f_X2_w2
  refine r_x64 (pe_lshl (pe_i64 _) (eI (8 : Int32) (by decide))) ?_
  refine r_x64 (pe_lor rfl (pe_i64 _)) ?_
  exact r_some (qJ_i rfl)
def p_X2_w3 (a0 : Int) (a1 : Int) (a2 : Int) : Option Int :=
(p_X2_w2 a0 a1).bind fun w1 =>
zlt (pjshl w1 8) fun x1 =>
zlt (pjor x1 a2) fun x2 =>
some (x2)
set_option maxHeartbeats 4000000 in
theorem rf_X2_w3 {pa0 : Int} {a0 : Int32} (ea0 : pa0 = a0.toInt) {pa1 : Int} {a1 : Int32} (ea1 : pa1 = a1.toInt) {pa2 : Int} {a2 : Int32} (ea2 : pa2 = a2.toInt) : pRf qJ (p_X2_w3 pa0 pa1 pa2) (f_X2_w3 a0 a1 a2) := by
  subst ea0
  subst ea1
  subst ea2
  unfold p_X2_w3 f_X2_w3
  refine r_bind (A := qJ) (rf_X2_w2 rfl rfl) ?_
  rintro pw1 w1 ew1
  change pw1 = w1.toInt at ew1; subst ew1
  refine r_x64 (pe_lshl rfl (eI (8 : Int32) (by decide))) ?_
  refine r_x64 (pe_lor rfl (pe_i64 _)) ?_
  exact r_some (qJ_i rfl)
def p_X2_w4 (a0 : Int) (a1 : Int) (a2 : Int) (a3 : Int) : Option Int :=
(p_X2_w3 a0 a1 a2).bind fun w1 =>
zlt (pjshl w1 8) fun x1 =>
zlt (pjor x1 a3) fun x2 =>
some (x2)
set_option maxHeartbeats 4000000 in
theorem rf_X2_w4 {pa0 : Int} {a0 : Int32} (ea0 : pa0 = a0.toInt) {pa1 : Int} {a1 : Int32} (ea1 : pa1 = a1.toInt) {pa2 : Int} {a2 : Int32} (ea2 : pa2 = a2.toInt) {pa3 : Int} {a3 : Int32} (ea3 : pa3 = a3.toInt) : pRf qJ (p_X2_w4 pa0 pa1 pa2 pa3) (f_X2_w4 a0 a1 a2 a3) := by
  subst ea0
  subst ea1
  subst ea2
  subst ea3
  unfold p_X2_w4 f_X2_w4
  refine r_bind (A := qJ) (rf_X2_w3 rfl rfl rfl) ?_
  rintro pw1 w1 ew1
  change pw1 = w1.toInt at ew1; subst ew1
  refine r_x64 (pe_lshl rfl (eI (8 : Int32) (by decide))) ?_
  refine r_x64 (pe_lor rfl (pe_i64 _)) ?_
  exact r_some (qJ_i rfl)
def p_X2_w5 (a0 : Int) (a1 : Int) (a2 : Int) (a3 : Int) (a4 : Int) : Option Int :=
(p_X2_w4 a0 a1 a2 a3).bind fun w1 =>
zlt (pjshl w1 8) fun x1 =>
zlt (pjor x1 a4) fun x2 =>
some (x2)
set_option maxHeartbeats 4000000 in
theorem rf_X2_w5 {pa0 : Int} {a0 : Int32} (ea0 : pa0 = a0.toInt) {pa1 : Int} {a1 : Int32} (ea1 : pa1 = a1.toInt) {pa2 : Int} {a2 : Int32} (ea2 : pa2 = a2.toInt) {pa3 : Int} {a3 : Int32} (ea3 : pa3 = a3.toInt) {pa4 : Int} {a4 : Int32} (ea4 : pa4 = a4.toInt) : pRf qJ (p_X2_w5 pa0 pa1 pa2 pa3 pa4) (f_X2_w5 a0 a1 a2 a3 a4) := by
  subst ea0
  subst ea1
  subst ea2
  subst ea3
  subst ea4
  unfold p_X2_w5 f_X2_w5
  refine r_bind (A := qJ) (rf_X2_w4 rfl rfl rfl rfl) ?_
  rintro pw1 w1 ew1
  change pw1 = w1.toInt at ew1; subst ew1
  refine r_x64 (pe_lshl rfl (eI (8 : Int32) (by decide))) ?_
  refine r_x64 (pe_lor rfl (pe_i64 _)) ?_
  exact r_some (qJ_i rfl)
def p_X2_w6 (a0 : Int) (a1 : Int) (a2 : Int) (a3 : Int) (a4 : Int) (a5 : Int) : Option Int :=
(p_X2_w5 a0 a1 a2 a3 a4).bind fun w1 =>
zlt (pjshl w1 8) fun x1 =>
zlt (pjor x1 a5) fun x2 =>
some (x2)
set_option maxHeartbeats 4000000 in
theorem rf_X2_w6 {pa0 : Int} {a0 : Int32} (ea0 : pa0 = a0.toInt) {pa1 : Int} {a1 : Int32} (ea1 : pa1 = a1.toInt) {pa2 : Int} {a2 : Int32} (ea2 : pa2 = a2.toInt) {pa3 : Int} {a3 : Int32} (ea3 : pa3 = a3.toInt) {pa4 : Int} {a4 : Int32} (ea4 : pa4 = a4.toInt) {pa5 : Int} {a5 : Int32} (ea5 : pa5 = a5.toInt) : pRf qJ (p_X2_w6 pa0 pa1 pa2 pa3 pa4 pa5) (f_X2_w6 a0 a1 a2 a3 a4 a5) := by
  subst ea0
  subst ea1
  subst ea2
  subst ea3
  subst ea4
  subst ea5
  unfold p_X2_w6 f_X2_w6
  refine r_bind (A := qJ) (rf_X2_w5 rfl rfl rfl rfl rfl) ?_
  rintro pw1 w1 ew1
  change pw1 = w1.toInt at ew1; subst ew1
  refine r_x64 (pe_lshl rfl (eI (8 : Int32) (by decide))) ?_
  refine r_x64 (pe_lor rfl (pe_i64 _)) ?_
  exact r_some (qJ_i rfl)
def p_X2_nameOf (S : zP) : Option Int :=
zlt (S 0 9) fun v1 =>
if v1 = 2 then (zlt (S 0 11) fun w2 =>
(p_X2_w6 100 105 110 110 101 114).bind fun w3 =>
if w2 = w3 then (some (0))
else (zlt (S 0 11) fun w4 =>
(p_X2_w3 119 104 111).bind fun w5 =>
if w4 = w5 then (some (1))
else (zlt (S 0 11) fun w6 =>
(p_X2_w6 116 101 109 112 101 114).bind fun w7 =>
if w6 = w7 then (some (2))
else (zlt (S 0 11) fun w8 =>
(p_X2_w4 107 101 112 116).bind fun w9 =>
if w8 = w9 then (some (3))
else (zlt (S 0 11) fun w10 =>
(p_X2_w4 115 101 97 116).bind fun w11 =>
if w10 = w11 then (some (4))
else (zlt (S 0 11) fun w12 =>
(p_X2_w6 98 101 115 105 100 101).bind fun w13 =>
if w12 = w13 then (some (5))
else (zlt (S 0 11) fun w14 =>
(p_X2_w5 108 111 111 115 101).bind fun w15 =>
if w14 = w15 then (some (6))
else (some ((-1))))))))))
else (some ((-1)))
set_option maxHeartbeats 4000000 in
theorem rf_X2_nameOf {g : zGd} {M : Nat} {m0 : zMm} (hL : pLM g (zR m0) M) {m : zMm} (hm : pOk (bT M) m0 m) : pRf qI (p_X2_nameOf (pI (bT M) m)) (f_X2_nameOf g m (some ((bT M).1 + 0))) := by
  unfold p_X2_nameOf f_X2_nameOf
  refine r_gi (B := (bT M)) (c := 0) (i := 9) (lm_o hL) rfl rfl (fun v1 => ?_)
  refine r_ite (pc_eq rfl (eI (2 : Int32) (by decide))) ?_ ?_
  · refine r_gj (B := (bT M)) (c := 0) (i := 11) (lm_o hL) rfl rfl (fun w2 => ?_)
    refine r_bind (A := qJ) (rf_X2_w6 (eI (100 : Int32) (by decide)) (eI (105 : Int32) (by decide)) (eI (110 : Int32) (by decide)) (eI (110 : Int32) (by decide)) (eI (101 : Int32) (by decide)) (eI (114 : Int32) (by decide))) ?_
    rintro pw3 w3 ew3
    change pw3 = w3.toInt at ew3; subst ew3
    refine r_ite (pcj_eq rfl rfl) ?_ ?_
    · exact r_some (qI_i (eI (0 : Int32) (by decide)))
    · refine r_gj (B := (bT M)) (c := 0) (i := 11) (lm_o hL) rfl rfl (fun w4 => ?_)
      refine r_bind (A := qJ) (rf_X2_w3 (eI (119 : Int32) (by decide)) (eI (104 : Int32) (by decide)) (eI (111 : Int32) (by decide))) ?_
      rintro pw5 w5 ew5
      change pw5 = w5.toInt at ew5; subst ew5
      refine r_ite (pcj_eq rfl rfl) ?_ ?_
      · exact r_some (qI_i (eI (1 : Int32) (by decide)))
      · refine r_gj (B := (bT M)) (c := 0) (i := 11) (lm_o hL) rfl rfl (fun w6 => ?_)
        refine r_bind (A := qJ) (rf_X2_w6 (eI (116 : Int32) (by decide)) (eI (101 : Int32) (by decide)) (eI (109 : Int32) (by decide)) (eI (112 : Int32) (by decide)) (eI (101 : Int32) (by decide)) (eI (114 : Int32) (by decide))) ?_
        rintro pw7 w7 ew7
        change pw7 = w7.toInt at ew7; subst ew7
        refine r_ite (pcj_eq rfl rfl) ?_ ?_
        · exact r_some (qI_i (eI (2 : Int32) (by decide)))
        · refine r_gj (B := (bT M)) (c := 0) (i := 11) (lm_o hL) rfl rfl (fun w8 => ?_)
          refine r_bind (A := qJ) (rf_X2_w4 (eI (107 : Int32) (by decide)) (eI (101 : Int32) (by decide)) (eI (112 : Int32) (by decide)) (eI (116 : Int32) (by decide))) ?_
          rintro pw9 w9 ew9
          change pw9 = w9.toInt at ew9; subst ew9
          refine r_ite (pcj_eq rfl rfl) ?_ ?_
          · exact r_some (qI_i (eI (3 : Int32) (by decide)))
          · refine r_gj (B := (bT M)) (c := 0) (i := 11) (lm_o hL) rfl rfl (fun w10 => ?_)
            refine r_bind (A := qJ) (rf_X2_w4 (eI (115 : Int32) (by decide)) (eI (101 : Int32) (by decide)) (eI (97 : Int32) (by decide)) (eI (116 : Int32) (by decide))) ?_
            rintro pw11 w11 ew11
            change pw11 = w11.toInt at ew11; subst ew11
            refine r_ite (pcj_eq rfl rfl) ?_ ?_
            · exact r_some (qI_i (eI (4 : Int32) (by decide)))
            · refine r_gj (B := (bT M)) (c := 0) (i := 11) (lm_o hL) rfl rfl (fun w12 => ?_)
              refine r_bind (A := qJ) (rf_X2_w6 (eI (98 : Int32) (by decide)) (eI (101 : Int32) (by decide)) (eI (115 : Int32) (by decide)) (eI (105 : Int32) (by decide)) (eI (100 : Int32) (by decide)) (eI (101 : Int32) (by decide))) ?_
              rintro pw13 w13 ew13
              change pw13 = w13.toInt at ew13; subst ew13
              refine r_ite (pcj_eq rfl rfl) ?_ ?_
              · exact r_some (qI_i (eI (5 : Int32) (by decide)))
              · refine r_gj (B := (bT M)) (c := 0) (i := 11) (lm_o hL) rfl rfl (fun w14 => ?_)
                refine r_bind (A := qJ) (rf_X2_w5 (eI (108 : Int32) (by decide)) (eI (111 : Int32) (by decide)) (eI (111 : Int32) (by decide)) (eI (115 : Int32) (by decide)) (eI (101 : Int32) (by decide))) ?_
                rintro pw15 w15 ew15
                change pw15 = w15.toInt at ew15; subst ew15
                refine r_ite (pcj_eq rfl rfl) ?_ ?_
                · exact r_some (qI_i (eI (6 : Int32) (by decide)))
                · exact r_some (qI_i (eI (-1 : Int32) (by decide)))
  · exact r_some (qI_i (eI (-1 : Int32) (by decide)))
def p_X2_opened (S : zP) (a1 : Int) : Option (Int × zP) :=
zlt (S 0 17) fun v1 =>
if v1 = 8 then (some ((3, S)))
else (zlt (S 0 17) fun v2 =>
p32 (v2 + 1) fun x1 =>
zlt (pup S 0 17 x1) fun S3 =>
zlt (S3 0 16) fun v5 =>
(past S3 5 160 v5 a1).bind fun S6 =>
zlt (S6 0 16) fun v7 =>
p32 (v7 + 1) fun x2 =>
zlt (pup S6 0 16 x2) fun S8 =>
(p_X2_nextToken S8).bind fun S9 =>
some ((0, S9)))
set_option maxHeartbeats 4000000 in
theorem rf_X2_opened {g : zGd} {M : Nat} {m0 : zMm} (hL : pLM g (zR m0) M) {m : zMm} (hm : pOk (bT M) m0 m) {pa1 : Int} {a1 : Int32} (ea1 : pa1 = a1.toInt) : pRf (qP qI (qM (bT M) m0)) (p_X2_opened (pI (bT M) m) pa1) (f_X2_opened g m (some ((bT M).1 + 0)) a1) := by
  subst ea1
  unfold p_X2_opened f_X2_opened
  refine r_gi (B := (bT M)) (c := 0) (i := 17) (lm_o hL) rfl rfl (fun v1 => ?_)
  refine r_ite (pc_eq rfl (eI (8 : Int32) (by decide))) ?_ ?_
  · exact r_some (qP_i (qI_i (eI (3 : Int32) (by decide))) (qM_i hm))
  · refine r_gi (B := (bT M)) (c := 0) (i := 17) (lm_o hL) rfl rfl (fun v2 => ?_)
    refine r_p32 (px_add (px_v _) (px_n (1 : Int32) (by decide))) ?_
    refine r_pi (B := (bT M)) (c := 0) (i := 17) hm (lm_o hL) hL.1 (wT (by omega)) rfl rfl rfl (fun m3 hm3 => ?_)
    refine r_gr (d := 5) hm3 (lm_o hL) (lm_f15 hL) ?_
    refine r_gi (B := (bT M)) (c := 0) (i := 16) (lm_o hL) rfl rfl (fun v5 => ?_)
    refine r_ast hm3 (lm_k5 hL) hL.1 (wT (by omega)) rfl rfl (fun _ => rfl) (fun m6 hm6 => ?_)
    refine r_gi (B := (bT M)) (c := 0) (i := 16) (lm_o hL) rfl rfl (fun v7 => ?_)
    refine r_p32 (px_add (px_v _) (px_n (1 : Int32) (by decide))) ?_
    refine r_pi (B := (bT M)) (c := 0) (i := 16) hm6 (lm_o hL) hL.1 (wT (by omega)) rfl rfl rfl (fun m8 hm8 => ?_)
    refine r_bind (A := (qM (bT M) m0)) (r_rc (B := (bT M)) (c := 0) (lm_o hL) (rf_X2_nextToken hL hm8)) ?_
    rintro S9 m9 ⟨em9, hm9⟩
    change S9 = pI (bT M) m9 at em9; subst em9
    exact r_some (qP_i (qI_i (eI (0 : Int32) (by decide))) (qM_i hm9))
def pb_X2_settle_0 (a1 : Int) : zP → Option (zP ⊕ zP) := fun S4 =>
zlt (S4 0 16) fun v5 =>
if v5 ≤ 0 then (some (.inl S4))
else (zlt (S4 0 16) fun v7 =>
p32 (v7 - 1) fun x1 =>
(pald S4 5 160 x1).bind fun v8 =>
(p_X2_rank v8).bind fun v9 =>
if v9 < a1 then (some (.inl S4))
else (zlt (S4 0 16) fun v10 =>
p32 (v10 - 1) fun x2 =>
zlt (pup S4 0 16 x2) fun S11 =>
zlt (S11 0 16) fun v13 =>
(pald S11 5 160 v13).bind fun v14 =>
(p_X2_emit S11 v14 0).bind fun S15 =>
zlt (S15 0 16) fun v17 =>
(pald S15 5 160 v17).bind fun v18 =>
(p_X2_rank v18).bind fun v19 =>
zEx (σ := Unit) (if v19 = 7 then (some (.inr ()))
else (zlt (S15 0 16) fun v22 =>
(pald S15 5 160 v22).bind fun v23 =>
if v23 = 20 then (some (.inr ()))
else (some (.inl (.inr S15))))) fun _ =>
zlt (S15 0 17) fun v24 =>
p32 (v24 - 1) fun x3 =>
zlt (pup S15 0 17 x3) fun S25 =>
some (.inr S25)))
set_option maxHeartbeats 4000000 in
theorem rb_X2_settle_0 {g : zGd} {M : Nat} {m0 : zMm} (hL : pLM g (zR m0) M) {pa1 : Int} {a1 : Int32} (ea1 : pa1 = a1.toInt) : ∀ s t, (qM (bT M) m0) s t → pRf (qS (qM (bT M) m0) (qM (bT M) m0)) (pb_X2_settle_0 pa1 s) (b_X2_settle_0 g (some ((bT M).1 + 0)) a1 t) := by
  subst ea1
  rintro S4 m4 ⟨em4, hm4⟩
  change S4 = pI (bT M) m4 at em4; subst em4
  unfold pb_X2_settle_0 b_X2_settle_0
  try dsimp only
  refine r_gi (B := (bT M)) (c := 0) (i := 16) (lm_o hL) rfl rfl (fun v5 => ?_)
  refine r_ite (pc_le rfl (eI (0 : Int32) (by decide))) ?_ ?_
  · exact r_some (qS_l (qM_i hm4))
  · refine r_gr (d := 5) hm4 (lm_o hL) (lm_f15 hL) ?_
    refine r_gi (B := (bT M)) (c := 0) (i := 16) (lm_o hL) rfl rfl (fun v7 => ?_)
    refine r_p32 (px_sub (px_v _) (px_n (1 : Int32) (by decide))) ?_
    refine r_ald (lm_k5 hL) rfl (fun _ => rfl) (fun v8 => ?_)
    refine r_bind (A := qI) (rf_X2_rank rfl) ?_
    rintro pv9 v9 ev9
    change pv9 = v9.toInt at ev9; subst ev9
    refine r_ite (pc_lt rfl rfl) ?_ ?_
    · exact r_some (qS_l (qM_i hm4))
    · refine r_gi (B := (bT M)) (c := 0) (i := 16) (lm_o hL) rfl rfl (fun v10 => ?_)
      refine r_p32 (px_sub (px_v _) (px_n (1 : Int32) (by decide))) ?_
      refine r_pi (B := (bT M)) (c := 0) (i := 16) hm4 (lm_o hL) hL.1 (wT (by omega)) rfl rfl rfl (fun m11 hm11 => ?_)
      refine r_gr (d := 5) hm11 (lm_o hL) (lm_f15 hL) ?_
      refine r_gi (B := (bT M)) (c := 0) (i := 16) (lm_o hL) rfl rfl (fun v13 => ?_)
      refine r_ald (lm_k5 hL) rfl (fun _ => rfl) (fun v14 => ?_)
      refine r_bind (A := (qM (bT M) m0)) (r_rc (B := (bT M)) (c := 0) (lm_o hL) (rf_X2_emit hL hm11 rfl (eI (0 : Int32) (by decide)))) ?_
      rintro S15 m15 ⟨em15, hm15⟩
      change S15 = pI (bT M) m15 at em15; subst em15
      refine r_gr (d := 5) hm15 (lm_o hL) (lm_f15 hL) ?_
      refine r_gi (B := (bT M)) (c := 0) (i := 16) (lm_o hL) rfl rfl (fun v17 => ?_)
      refine r_ald (lm_k5 hL) rfl (fun _ => rfl) (fun v18 => ?_)
      refine r_bind (A := qI) (rf_X2_rank rfl) ?_
      rintro pv19 v19 ev19
      change pv19 = v19.toInt at ev19; subst ev19
      refine r_ex (Q := (qS (qM (bT M) m0) (qM (bT M) m0))) (R := qU) ?_ ?_
      · refine r_ite (pc_eq rfl (eI (7 : Int32) (by decide))) ?_ ?_
        · exact r_some (qS_r qU_i)
        · refine r_gr (d := 5) hm15 (lm_o hL) (lm_f15 hL) ?_
          refine r_gi (B := (bT M)) (c := 0) (i := 16) (lm_o hL) rfl rfl (fun v22 => ?_)
          refine r_ald (lm_k5 hL) rfl (fun _ => rfl) (fun v23 => ?_)
          refine r_ite (pc_eq rfl (eI (20 : Int32) (by decide))) ?_ ?_
          · exact r_some (qS_r qU_i)
          · exact r_some (qS_l (qS_r (qM_i hm15)))
      rintro _ _ _
      refine r_gi (B := (bT M)) (c := 0) (i := 17) (lm_o hL) rfl rfl (fun v24 => ?_)
      refine r_p32 (px_sub (px_v _) (px_n (1 : Int32) (by decide))) ?_
      refine r_pi (B := (bT M)) (c := 0) (i := 17) hm15 (lm_o hL) hL.1 (wT (by omega)) rfl rfl rfl (fun m25 hm25 => ?_)
      exact r_some (qS_r (qM_i hm25))
def p_X2_settle (S : zP) (a1 : Int) : Option zP :=
(zLoop (pb_X2_settle_0 a1) zFuel S).bind fun S2 =>
some (S2)
set_option maxHeartbeats 4000000 in
theorem rf_X2_settle {g : zGd} {M : Nat} {m0 : zMm} (hL : pLM g (zR m0) M) {m : zMm} (hm : pOk (bT M) m0 m) {pa1 : Int} {a1 : Int32} (ea1 : pa1 = a1.toInt) : pRf (qM (bT M) m0) (p_X2_settle (pI (bT M) m) pa1) (f_X2_settle g m (some ((bT M).1 + 0)) a1) := by
  subst ea1
  unfold p_X2_settle f_X2_settle
  refine r_bind (A := (qM (bT M) m0)) (r_loop (rb_X2_settle_0 hL rfl) zFuel _ _ (qM_i hm)) ?_
  rintro S2 m2 ⟨em2, hm2⟩
  change S2 = pI (bT M) m2 at em2; subst em2
  exact r_some (qM_i hm2)
def p_X2_beginOne (S : zP) : Option (Int × zP) :=
zlt (S 0 9) fun v1 =>
zEx (σ := Unit) (if v1 = 1 then (zlt (S 0 10) fun v3 =>
if v3 ≤ 9999 then (some (.inr ()))
else (some (.inl (2, S))))
else (some (.inr ()))) fun _ =>
(p_X2_nameOf S).bind fun v4 =>
zEx (σ := Unit) (if v4 < 0 then (some (.inr ()))
else ((p_X2_isOf S v4).bind fun v6 =>
if v6 = 0 then (some (.inl (5, S)))
else (some (.inr ())))) fun _ =>
zlt (S 0 9) fun v7 =>
zEx (σ := Unit) (if v7 = 1 then (some (.inr ()))
else (if v4 < 0 then (zlt (S 0 9) fun v9 =>
if v9 = 40 then ((p_X2_opened S 40).bind fun (v30, S31) =>
some (.inl (v30, S31)))
else (zlt (S 0 9) fun v10 =>
if v10 = 45 then ((p_X2_opened S 5).bind fun (v28, S29) =>
some (.inl (v28, S29)))
else ((p_X2_w6 97 99 114 111 115 115).bind fun w11 =>
(p_X2_isWord S w11).bind fun v12 =>
if v12 = 0 then ((p_X2_w6 113 117 105 118 101 114).bind fun w13 =>
(p_X2_isWord S w13).bind fun v14 =>
if v14 = 0 then ((p_X2_w2 105 102).bind fun w15 =>
(p_X2_isWord S w15).bind fun v16 =>
if v16 = 0 then ((p_X2_w3 110 111 116).bind fun w17 =>
(p_X2_isWord S w17).bind fun v18 =>
if v18 = 0 then (some (.inl (1, S)))
else ((p_X2_isAskAhead S).bind fun v19 =>
if v19 = 0 then (some (.inl (1, S)))
else ((p_X2_opened S 20).bind fun (v20, S21) =>
some (.inl (v20, S21)))))
else ((p_X2_opened S 41).bind fun (v22, S23) =>
some (.inl (v22, S23))))
else ((p_X2_opened S 4).bind fun (v24, S25) =>
some (.inl (v24, S25))))
else ((p_X2_opened S 2).bind fun (v26, S27) =>
some (.inl (v26, S27))))))
else (some (.inr ())))) fun _ =>
zlt (S 0 9) fun v32 =>
((if v32 = 1 then (some (0))
else (some (1)) : Option Int)).bind fun v34 =>
zlt (S 0 9) fun v35 =>
((if v35 = 1 then (zlt (S 0 10) fun v38 =>
some (v38))
else (some (v4)) : Option Int)).bind fun v37 =>
(p_X2_emit S v34 v37).bind fun S39 =>
(p_X2_nextToken S39).bind fun S40 =>
zlt (pup S40 0 18 1) fun S41 =>
(p_X2_settle S41 7).bind fun S42 =>
some ((0, S42))
set_option maxHeartbeats 4000000 in
theorem rf_X2_beginOne {g : zGd} {M : Nat} {m0 : zMm} (hL : pLM g (zR m0) M) {m : zMm} (hm : pOk (bT M) m0 m) : pRf (qP qI (qM (bT M) m0)) (p_X2_beginOne (pI (bT M) m)) (f_X2_beginOne g m (some ((bT M).1 + 0))) := by
  unfold p_X2_beginOne f_X2_beginOne
  refine r_gi (B := (bT M)) (c := 0) (i := 9) (lm_o hL) rfl rfl (fun v1 => ?_)
  refine r_ex (Q := (qP qI (qM (bT M) m0))) (R := qU) ?_ ?_
  · refine r_ite (pc_eq rfl (eI (1 : Int32) (by decide))) ?_ ?_
    · refine r_gi (B := (bT M)) (c := 0) (i := 10) (lm_o hL) rfl rfl (fun v3 => ?_)
      refine r_ite (pc_le rfl (eI (9999 : Int32) (by decide))) ?_ ?_
      · exact r_some (qS_r qU_i)
      · exact r_some (qS_l (qP_i (qI_i (eI (2 : Int32) (by decide))) (qM_i hm)))
    · exact r_some (qS_r qU_i)
  rintro _ _ _
  refine r_bind (A := qI) (r_rc (B := (bT M)) (c := 0) (lm_o hL) (rf_X2_nameOf hL hm)) ?_
  rintro pv4 v4 ev4
  change pv4 = v4.toInt at ev4; subst ev4
  refine r_ex (Q := (qP qI (qM (bT M) m0))) (R := qU) ?_ ?_
  · refine r_ite (pc_lt rfl (eI (0 : Int32) (by decide))) ?_ ?_
    · exact r_some (qS_r qU_i)
    · refine r_bind (A := qI) (r_rc (B := (bT M)) (c := 0) (lm_o hL) (rf_X2_isOf hL hm rfl)) ?_
      rintro pv6 v6 ev6
      change pv6 = v6.toInt at ev6; subst ev6
      refine r_ite (pc_eq rfl (eI (0 : Int32) (by decide))) ?_ ?_
      · exact r_some (qS_l (qP_i (qI_i (eI (5 : Int32) (by decide))) (qM_i hm)))
      · exact r_some (qS_r qU_i)
  rintro _ _ _
  refine r_gi (B := (bT M)) (c := 0) (i := 9) (lm_o hL) rfl rfl (fun v7 => ?_)
  refine r_ex (Q := (qP qI (qM (bT M) m0))) (R := qU) ?_ ?_
  · refine r_ite (pc_eq rfl (eI (1 : Int32) (by decide))) ?_ ?_
    · exact r_some (qS_r qU_i)
    · refine r_ite (pc_lt rfl (eI (0 : Int32) (by decide))) ?_ ?_
      · refine r_gi (B := (bT M)) (c := 0) (i := 9) (lm_o hL) rfl rfl (fun v9 => ?_)
        refine r_ite (pc_eq rfl (eI (40 : Int32) (by decide))) ?_ ?_
        · refine r_bind (A := (qP qI (qM (bT M) m0))) (r_rc (B := (bT M)) (c := 0) (lm_o hL) (rf_X2_opened hL hm (eI (40 : Int32) (by decide)))) ?_
          rintro ⟨pv30, S31⟩ ⟨v30, m31⟩ ⟨ev30, ⟨em31, hm31⟩⟩
          change pv30 = v30.toInt at ev30; subst ev30
          change S31 = pI (bT M) m31 at em31; subst em31
          exact r_some (qS_l (qP_i (qI_i rfl) (qM_i hm31)))
        · refine r_gi (B := (bT M)) (c := 0) (i := 9) (lm_o hL) rfl rfl (fun v10 => ?_)
          refine r_ite (pc_eq rfl (eI (45 : Int32) (by decide))) ?_ ?_
          · refine r_bind (A := (qP qI (qM (bT M) m0))) (r_rc (B := (bT M)) (c := 0) (lm_o hL) (rf_X2_opened hL hm (eI (5 : Int32) (by decide)))) ?_
            rintro ⟨pv28, S29⟩ ⟨v28, m29⟩ ⟨ev28, ⟨em29, hm29⟩⟩
            change pv28 = v28.toInt at ev28; subst ev28
            change S29 = pI (bT M) m29 at em29; subst em29
            exact r_some (qS_l (qP_i (qI_i rfl) (qM_i hm29)))
          · refine r_bind (A := qJ) (rf_X2_w6 (eI (97 : Int32) (by decide)) (eI (99 : Int32) (by decide)) (eI (114 : Int32) (by decide)) (eI (111 : Int32) (by decide)) (eI (115 : Int32) (by decide)) (eI (115 : Int32) (by decide))) ?_
            rintro pw11 w11 ew11
            change pw11 = w11.toInt at ew11; subst ew11
            refine r_bind (A := qI) (r_rc (B := (bT M)) (c := 0) (lm_o hL) (rf_X2_isWord hL hm rfl)) ?_
            rintro pv12 v12 ev12
            change pv12 = v12.toInt at ev12; subst ev12
            refine r_ite (pc_eq rfl (eI (0 : Int32) (by decide))) ?_ ?_
            · refine r_bind (A := qJ) (rf_X2_w6 (eI (113 : Int32) (by decide)) (eI (117 : Int32) (by decide)) (eI (105 : Int32) (by decide)) (eI (118 : Int32) (by decide)) (eI (101 : Int32) (by decide)) (eI (114 : Int32) (by decide))) ?_
              rintro pw13 w13 ew13
              change pw13 = w13.toInt at ew13; subst ew13
              refine r_bind (A := qI) (r_rc (B := (bT M)) (c := 0) (lm_o hL) (rf_X2_isWord hL hm rfl)) ?_
              rintro pv14 v14 ev14
              change pv14 = v14.toInt at ev14; subst ev14
              refine r_ite (pc_eq rfl (eI (0 : Int32) (by decide))) ?_ ?_
              · refine r_bind (A := qJ) (rf_X2_w2 (eI (105 : Int32) (by decide)) (eI (102 : Int32) (by decide))) ?_
                rintro pw15 w15 ew15
                change pw15 = w15.toInt at ew15; subst ew15
                refine r_bind (A := qI) (r_rc (B := (bT M)) (c := 0) (lm_o hL) (rf_X2_isWord hL hm rfl)) ?_
                rintro pv16 v16 ev16
                change pv16 = v16.toInt at ev16; subst ev16
                refine r_ite (pc_eq rfl (eI (0 : Int32) (by decide))) ?_ ?_
                · refine r_bind (A := qJ) (rf_X2_w3 (eI (110 : Int32) (by decide)) (eI (111 : Int32) (by decide)) (eI (116 : Int32) (by decide))) ?_
                  rintro pw17 w17 ew17
                  change pw17 = w17.toInt at ew17; subst ew17
                  refine r_bind (A := qI) (r_rc (B := (bT M)) (c := 0) (lm_o hL) (rf_X2_isWord hL hm rfl)) ?_
                  rintro pv18 v18 ev18
                  change pv18 = v18.toInt at ev18; subst ev18
                  refine r_ite (pc_eq rfl (eI (0 : Int32) (by decide))) ?_ ?_
                  · exact r_some (qS_l (qP_i (qI_i (eI (1 : Int32) (by decide))) (qM_i hm)))
                  · refine r_bind (A := qI) (r_rc (B := (bT M)) (c := 0) (lm_o hL) (rf_X2_isAskAhead hL hm)) ?_
                    rintro pv19 v19 ev19
                    change pv19 = v19.toInt at ev19; subst ev19
                    refine r_ite (pc_eq rfl (eI (0 : Int32) (by decide))) ?_ ?_
                    · exact r_some (qS_l (qP_i (qI_i (eI (1 : Int32) (by decide))) (qM_i hm)))
                    · refine r_bind (A := (qP qI (qM (bT M) m0))) (r_rc (B := (bT M)) (c := 0) (lm_o hL) (rf_X2_opened hL hm (eI (20 : Int32) (by decide)))) ?_
                      rintro ⟨pv20, S21⟩ ⟨v20, m21⟩ ⟨ev20, ⟨em21, hm21⟩⟩
                      change pv20 = v20.toInt at ev20; subst ev20
                      change S21 = pI (bT M) m21 at em21; subst em21
                      exact r_some (qS_l (qP_i (qI_i rfl) (qM_i hm21)))
                · refine r_bind (A := (qP qI (qM (bT M) m0))) (r_rc (B := (bT M)) (c := 0) (lm_o hL) (rf_X2_opened hL hm (eI (41 : Int32) (by decide)))) ?_
                  rintro ⟨pv22, S23⟩ ⟨v22, m23⟩ ⟨ev22, ⟨em23, hm23⟩⟩
                  change pv22 = v22.toInt at ev22; subst ev22
                  change S23 = pI (bT M) m23 at em23; subst em23
                  exact r_some (qS_l (qP_i (qI_i rfl) (qM_i hm23)))
              · refine r_bind (A := (qP qI (qM (bT M) m0))) (r_rc (B := (bT M)) (c := 0) (lm_o hL) (rf_X2_opened hL hm (eI (4 : Int32) (by decide)))) ?_
                rintro ⟨pv24, S25⟩ ⟨v24, m25⟩ ⟨ev24, ⟨em25, hm25⟩⟩
                change pv24 = v24.toInt at ev24; subst ev24
                change S25 = pI (bT M) m25 at em25; subst em25
                exact r_some (qS_l (qP_i (qI_i rfl) (qM_i hm25)))
            · refine r_bind (A := (qP qI (qM (bT M) m0))) (r_rc (B := (bT M)) (c := 0) (lm_o hL) (rf_X2_opened hL hm (eI (2 : Int32) (by decide)))) ?_
              rintro ⟨pv26, S27⟩ ⟨v26, m27⟩ ⟨ev26, ⟨em27, hm27⟩⟩
              change pv26 = v26.toInt at ev26; subst ev26
              change S27 = pI (bT M) m27 at em27; subst em27
              exact r_some (qS_l (qP_i (qI_i rfl) (qM_i hm27)))
      · exact r_some (qS_r qU_i)
  rintro _ _ _
  refine r_gi (B := (bT M)) (c := 0) (i := 9) (lm_o hL) rfl rfl (fun v32 => ?_)
  refine r_bind (A := qI) ?_ ?_
  · refine r_ite (pc_eq rfl (eI (1 : Int32) (by decide))) ?_ ?_
    · exact r_some (qI_i (eI (0 : Int32) (by decide)))
    · exact r_some (qI_i (eI (1 : Int32) (by decide)))
  rintro pv34 v34 ev34
  change pv34 = v34.toInt at ev34; subst ev34
  refine r_gi (B := (bT M)) (c := 0) (i := 9) (lm_o hL) rfl rfl (fun v35 => ?_)
  refine r_bind (A := qI) ?_ ?_
  · refine r_ite (pc_eq rfl (eI (1 : Int32) (by decide))) ?_ ?_
    · refine r_gi (B := (bT M)) (c := 0) (i := 10) (lm_o hL) rfl rfl (fun v38 => ?_)
      exact r_some (qI_i rfl)
    · exact r_some (qI_i rfl)
  rintro pv37 v37 ev37
  change pv37 = v37.toInt at ev37; subst ev37
  refine r_bind (A := (qM (bT M) m0)) (r_rc (B := (bT M)) (c := 0) (lm_o hL) (rf_X2_emit hL hm rfl rfl)) ?_
  rintro S39 m39 ⟨em39, hm39⟩
  change S39 = pI (bT M) m39 at em39; subst em39
  refine r_bind (A := (qM (bT M) m0)) (r_rc (B := (bT M)) (c := 0) (lm_o hL) (rf_X2_nextToken hL hm39)) ?_
  rintro S40 m40 ⟨em40, hm40⟩
  change S40 = pI (bT M) m40 at em40; subst em40
  refine r_pz (B := (bT M)) (c := 0) (i := 18) (by decide) hm40 (lm_o hL) hL.1 (wT (by omega)) rfl rfl (eI (1 : Int32) (by decide)) (fun m41 hm41 => ?_)
  refine r_bind (A := (qM (bT M) m0)) (r_rc (B := (bT M)) (c := 0) (lm_o hL) (rf_X2_settle hL hm41 (eI (7 : Int32) (by decide)))) ?_
  rintro S42 m42 ⟨em42, hm42⟩
  change S42 = pI (bT M) m42 at em42; subst em42
  exact r_some (qP_i (qI_i (eI (0 : Int32) (by decide))) (qM_i hm42))
def p_X2_compareOf (S : zP) : Option Int :=
zlt (S 0 9) fun v1 =>
if v1 = 60 then (some (10))
else (zlt (S 0 9) fun v2 =>
if v2 = 4 then (some (11))
else (zlt (S 0 9) fun v3 =>
if v3 = 62 then (some (12))
else (zlt (S 0 9) fun v4 =>
if v4 = 5 then (some (13))
else (zlt (S 0 9) fun v5 =>
if v5 = 61 then (some (14))
else (zlt (S 0 9) fun v6 =>
if v6 = 35 then (some (15))
else (some ((-1))))))))
set_option maxHeartbeats 4000000 in
theorem rf_X2_compareOf {g : zGd} {M : Nat} {m0 : zMm} (hL : pLM g (zR m0) M) {m : zMm} (hm : pOk (bT M) m0 m) : pRf qI (p_X2_compareOf (pI (bT M) m)) (f_X2_compareOf g m (some ((bT M).1 + 0))) := by
  unfold p_X2_compareOf f_X2_compareOf
  refine r_gi (B := (bT M)) (c := 0) (i := 9) (lm_o hL) rfl rfl (fun v1 => ?_)
  refine r_ite (pc_eq rfl (eI (60 : Int32) (by decide))) ?_ ?_
  · exact r_some (qI_i (eI (10 : Int32) (by decide)))
  · refine r_gi (B := (bT M)) (c := 0) (i := 9) (lm_o hL) rfl rfl (fun v2 => ?_)
    refine r_ite (pc_eq rfl (eI (4 : Int32) (by decide))) ?_ ?_
    · exact r_some (qI_i (eI (11 : Int32) (by decide)))
    · refine r_gi (B := (bT M)) (c := 0) (i := 9) (lm_o hL) rfl rfl (fun v3 => ?_)
      refine r_ite (pc_eq rfl (eI (62 : Int32) (by decide))) ?_ ?_
      · exact r_some (qI_i (eI (12 : Int32) (by decide)))
      · refine r_gi (B := (bT M)) (c := 0) (i := 9) (lm_o hL) rfl rfl (fun v4 => ?_)
        refine r_ite (pc_eq rfl (eI (5 : Int32) (by decide))) ?_ ?_
        · exact r_some (qI_i (eI (13 : Int32) (by decide)))
        · refine r_gi (B := (bT M)) (c := 0) (i := 9) (lm_o hL) rfl rfl (fun v5 => ?_)
          refine r_ite (pc_eq rfl (eI (61 : Int32) (by decide))) ?_ ?_
          · exact r_some (qI_i (eI (14 : Int32) (by decide)))
          · refine r_gi (B := (bT M)) (c := 0) (i := 9) (lm_o hL) rfl rfl (fun v6 => ?_)
            refine r_ite (pc_eq rfl (eI (35 : Int32) (by decide))) ?_ ?_
            · exact r_some (qI_i (eI (15 : Int32) (by decide)))
            · exact r_some (qI_i (eI (-1 : Int32) (by decide)))
def pb_X2_isCompared_7 (S : zP) : Int → Option (Int ⊕ Int) := fun v6 =>
if v6 < 0 then (some (.inl v6))
else ((pald S 5 160 v6).bind fun v8 =>
(p_X2_rank v8).bind fun v9 =>
if v9 ≤ 4 then (some (.inl v6))
else (p32 (v6 + (-1)) fun v10 =>
some (.inr v10)))
set_option maxHeartbeats 4000000 in
theorem rb_X2_isCompared_7 {g : zGd} {M : Nat} {m0 : zMm} (hL : pLM g (zR m0) M) {m : zMm} (hm : pOk (bT M) m0 m) : ∀ s t, qI s t → pRf (qS qI qI) (pb_X2_isCompared_7 (pI (bT M) m) s) (b_X2_isCompared_7 g m (some ((bT M).1 + 0)) t) := by
  rintro pv6 v6 ev6
  change pv6 = v6.toInt at ev6; subst ev6
  unfold pb_X2_isCompared_7 b_X2_isCompared_7
  try dsimp only
  refine r_ite (pc_lt rfl (eI (0 : Int32) (by decide))) ?_ ?_
  · exact r_some (qS_l (qI_i rfl))
  · refine r_gr (d := 5) hm (lm_o hL) (lm_f15 hL) ?_
    refine r_ald (lm_k5 hL) rfl (fun _ => rfl) (fun v8 => ?_)
    refine r_bind (A := qI) (rf_X2_rank rfl) ?_
    rintro pv9 v9 ev9
    change pv9 = v9.toInt at ev9; subst ev9
    refine r_ite (pc_le rfl (eI (4 : Int32) (by decide))) ?_ ?_
    · exact r_some (qS_l (qI_i rfl))
    · refine r_lt32 (px_add (px_v _) (px_n (-1 : Int32) (by decide))) (fun v10 => ?_)
      exact r_some (qS_r (qI_i rfl))
def p_X2_isCompared (S : zP) : Option Int :=
zlt (S 0 16) fun v1 =>
p32 (v1 - 1) fun v2 =>
(zLoop (pb_X2_isCompared_7 S) zFuel v2).bind fun v4 =>
if v4 < 0 then (some (0))
else ((pald S 5 160 v4).bind fun v12 =>
(p_X2_rank v12).bind fun v13 =>
if v13 = 4 then (some (1))
else (some (0)))
set_option maxHeartbeats 4000000 in
theorem rf_X2_isCompared {g : zGd} {M : Nat} {m0 : zMm} (hL : pLM g (zR m0) M) {m : zMm} (hm : pOk (bT M) m0 m) : pRf qI (p_X2_isCompared (pI (bT M) m)) (f_X2_isCompared g m (some ((bT M).1 + 0))) := by
  unfold p_X2_isCompared f_X2_isCompared
  refine r_gi (B := (bT M)) (c := 0) (i := 16) (lm_o hL) rfl rfl (fun v1 => ?_)
  refine r_lt32 (px_sub (px_v _) (px_n (1 : Int32) (by decide))) (fun v2 => ?_)
  refine r_bind (A := qI) (r_loop (rb_X2_isCompared_7 hL hm) zFuel _ _ (qI_i rfl)) ?_
  rintro pv4 v4 ev4
  change pv4 = v4.toInt at ev4; subst ev4
  refine r_ite (pc_lt rfl (eI (0 : Int32) (by decide))) ?_ ?_
  · exact r_some (qI_i (eI (0 : Int32) (by decide)))
  · refine r_gr (d := 5) hm (lm_o hL) (lm_f15 hL) ?_
    refine r_ald (lm_k5 hL) rfl (fun _ => rfl) (fun v12 => ?_)
    refine r_bind (A := qI) (rf_X2_rank rfl) ?_
    rintro pv13 v13 ev13
    change pv13 = v13.toInt at ev13; subst ev13
    refine r_ite (pc_eq rfl (eI (4 : Int32) (by decide))) ?_ ?_
    · exact r_some (qI_i (eI (1 : Int32) (by decide)))
    · exact r_some (qI_i (eI (0 : Int32) (by decide)))
def p_X2_betweenOf (S : zP) : Option Int :=
zlt (S 0 9) fun v1 =>
if v1 = 43 then (some (6))
else (zlt (S 0 9) fun v2 =>
if v2 = 45 then (some (7))
else (zlt (S 0 9) fun v3 =>
if v3 = 42 then (some (8))
else (zlt (S 0 9) fun v4 =>
if v4 = 47 then (some (9))
else ((p_X2_openNow S).bind fun v5 =>
if v5 = 41 then ((p_X2_isCompared S).bind fun v6 =>
if v6 = 0 then ((p_X2_compareOf S).bind fun v11 =>
some (v11))
else ((p_X2_w3 97 110 100).bind fun w7 =>
(p_X2_isWord S w7).bind fun v8 =>
if v8 = 0 then ((p_X2_w2 111 114).bind fun w9 =>
(p_X2_isWord S w9).bind fun v10 =>
if v10 = 0 then (some ((-1)))
else (some (22)))
else (some (21))))
else (some ((-1)))))))
set_option maxHeartbeats 4000000 in
theorem rf_X2_betweenOf {g : zGd} {M : Nat} {m0 : zMm} (hL : pLM g (zR m0) M) {m : zMm} (hm : pOk (bT M) m0 m) : pRf qI (p_X2_betweenOf (pI (bT M) m)) (f_X2_betweenOf g m (some ((bT M).1 + 0))) := by
  unfold p_X2_betweenOf f_X2_betweenOf
  refine r_gi (B := (bT M)) (c := 0) (i := 9) (lm_o hL) rfl rfl (fun v1 => ?_)
  refine r_ite (pc_eq rfl (eI (43 : Int32) (by decide))) ?_ ?_
  · exact r_some (qI_i (eI (6 : Int32) (by decide)))
  · refine r_gi (B := (bT M)) (c := 0) (i := 9) (lm_o hL) rfl rfl (fun v2 => ?_)
    refine r_ite (pc_eq rfl (eI (45 : Int32) (by decide))) ?_ ?_
    · exact r_some (qI_i (eI (7 : Int32) (by decide)))
    · refine r_gi (B := (bT M)) (c := 0) (i := 9) (lm_o hL) rfl rfl (fun v3 => ?_)
      refine r_ite (pc_eq rfl (eI (42 : Int32) (by decide))) ?_ ?_
      · exact r_some (qI_i (eI (8 : Int32) (by decide)))
      · refine r_gi (B := (bT M)) (c := 0) (i := 9) (lm_o hL) rfl rfl (fun v4 => ?_)
        refine r_ite (pc_eq rfl (eI (47 : Int32) (by decide))) ?_ ?_
        · exact r_some (qI_i (eI (9 : Int32) (by decide)))
        · refine r_bind (A := qI) (r_rc (B := (bT M)) (c := 0) (lm_o hL) (rf_X2_openNow hL hm)) ?_
          rintro pv5 v5 ev5
          change pv5 = v5.toInt at ev5; subst ev5
          refine r_ite (pc_eq rfl (eI (41 : Int32) (by decide))) ?_ ?_
          · refine r_bind (A := qI) (r_rc (B := (bT M)) (c := 0) (lm_o hL) (rf_X2_isCompared hL hm)) ?_
            rintro pv6 v6 ev6
            change pv6 = v6.toInt at ev6; subst ev6
            refine r_ite (pc_eq rfl (eI (0 : Int32) (by decide))) ?_ ?_
            · refine r_bind (A := qI) (r_rc (B := (bT M)) (c := 0) (lm_o hL) (rf_X2_compareOf hL hm)) ?_
              rintro pv11 v11 ev11
              change pv11 = v11.toInt at ev11; subst ev11
              exact r_some (qI_i rfl)
            · refine r_bind (A := qJ) (rf_X2_w3 (eI (97 : Int32) (by decide)) (eI (110 : Int32) (by decide)) (eI (100 : Int32) (by decide))) ?_
              rintro pw7 w7 ew7
              change pw7 = w7.toInt at ew7; subst ew7
              refine r_bind (A := qI) (r_rc (B := (bT M)) (c := 0) (lm_o hL) (rf_X2_isWord hL hm rfl)) ?_
              rintro pv8 v8 ev8
              change pv8 = v8.toInt at ev8; subst ev8
              refine r_ite (pc_eq rfl (eI (0 : Int32) (by decide))) ?_ ?_
              · refine r_bind (A := qJ) (rf_X2_w2 (eI (111 : Int32) (by decide)) (eI (114 : Int32) (by decide))) ?_
                rintro pw9 w9 ew9
                change pw9 = w9.toInt at ew9; subst ew9
                refine r_bind (A := qI) (r_rc (B := (bT M)) (c := 0) (lm_o hL) (rf_X2_isWord hL hm rfl)) ?_
                rintro pv10 v10 ev10
                change pv10 = v10.toInt at ev10; subst ev10
                refine r_ite (pc_eq rfl (eI (0 : Int32) (by decide))) ?_ ?_
                · exact r_some (qI_i (eI (-1 : Int32) (by decide)))
                · exact r_some (qI_i (eI (22 : Int32) (by decide)))
              · exact r_some (qI_i (eI (21 : Int32) (by decide)))
          · exact r_some (qI_i (eI (-1 : Int32) (by decide)))
def p_X2_partOf (S : zP) (a1 : Int) : Option Int :=
if a1 = 40 then (zlt (S 0 9) fun v1 =>
if v1 = 41 then (some (0))
else (some ((-1))))
else (if a1 = 41 then ((p_X2_w4 116 104 101 110).bind fun w2 =>
(p_X2_isWord S w2).bind fun v3 =>
if v3 = 0 then (some ((-1)))
else ((p_X2_isCompared S).bind fun v4 =>
if v4 = 0 then (some ((-1)))
else (some (42))))
else (if a1 = 42 then ((p_X2_w4 101 108 115 101).bind fun w5 =>
(p_X2_isWord S w5).bind fun v6 =>
if v6 = 0 then (some ((-1)))
else (some (43)))
else (if a1 = 43 then ((p_X2_w3 101 110 100).bind fun w7 =>
(p_X2_isWord S w7).bind fun v8 =>
if v8 = 0 then (some ((-1)))
else (some (0)))
else (some ((-1))))))
set_option maxHeartbeats 4000000 in
theorem rf_X2_partOf {g : zGd} {M : Nat} {m0 : zMm} (hL : pLM g (zR m0) M) {m : zMm} (hm : pOk (bT M) m0 m) {pa1 : Int} {a1 : Int32} (ea1 : pa1 = a1.toInt) : pRf qI (p_X2_partOf (pI (bT M) m) pa1) (f_X2_partOf g m (some ((bT M).1 + 0)) a1) := by
  subst ea1
  unfold p_X2_partOf f_X2_partOf
  refine r_ite (pc_eq rfl (eI (40 : Int32) (by decide))) ?_ ?_
  · refine r_gi (B := (bT M)) (c := 0) (i := 9) (lm_o hL) rfl rfl (fun v1 => ?_)
    refine r_ite (pc_eq rfl (eI (41 : Int32) (by decide))) ?_ ?_
    · exact r_some (qI_i (eI (0 : Int32) (by decide)))
    · exact r_some (qI_i (eI (-1 : Int32) (by decide)))
  · refine r_ite (pc_eq rfl (eI (41 : Int32) (by decide))) ?_ ?_
    · refine r_bind (A := qJ) (rf_X2_w4 (eI (116 : Int32) (by decide)) (eI (104 : Int32) (by decide)) (eI (101 : Int32) (by decide)) (eI (110 : Int32) (by decide))) ?_
      rintro pw2 w2 ew2
      change pw2 = w2.toInt at ew2; subst ew2
      refine r_bind (A := qI) (r_rc (B := (bT M)) (c := 0) (lm_o hL) (rf_X2_isWord hL hm rfl)) ?_
      rintro pv3 v3 ev3
      change pv3 = v3.toInt at ev3; subst ev3
      refine r_ite (pc_eq rfl (eI (0 : Int32) (by decide))) ?_ ?_
      · exact r_some (qI_i (eI (-1 : Int32) (by decide)))
      · refine r_bind (A := qI) (r_rc (B := (bT M)) (c := 0) (lm_o hL) (rf_X2_isCompared hL hm)) ?_
        rintro pv4 v4 ev4
        change pv4 = v4.toInt at ev4; subst ev4
        refine r_ite (pc_eq rfl (eI (0 : Int32) (by decide))) ?_ ?_
        · exact r_some (qI_i (eI (-1 : Int32) (by decide)))
        · exact r_some (qI_i (eI (42 : Int32) (by decide)))
    · refine r_ite (pc_eq rfl (eI (42 : Int32) (by decide))) ?_ ?_
      · refine r_bind (A := qJ) (rf_X2_w4 (eI (101 : Int32) (by decide)) (eI (108 : Int32) (by decide)) (eI (115 : Int32) (by decide)) (eI (101 : Int32) (by decide))) ?_
        rintro pw5 w5 ew5
        change pw5 = w5.toInt at ew5; subst ew5
        refine r_bind (A := qI) (r_rc (B := (bT M)) (c := 0) (lm_o hL) (rf_X2_isWord hL hm rfl)) ?_
        rintro pv6 v6 ev6
        change pv6 = v6.toInt at ev6; subst ev6
        refine r_ite (pc_eq rfl (eI (0 : Int32) (by decide))) ?_ ?_
        · exact r_some (qI_i (eI (-1 : Int32) (by decide)))
        · exact r_some (qI_i (eI (43 : Int32) (by decide)))
      · refine r_ite (pc_eq rfl (eI (43 : Int32) (by decide))) ?_ ?_
        · refine r_bind (A := qJ) (rf_X2_w3 (eI (101 : Int32) (by decide)) (eI (110 : Int32) (by decide)) (eI (100 : Int32) (by decide))) ?_
          rintro pw7 w7 ew7
          change pw7 = w7.toInt at ew7; subst ew7
          refine r_bind (A := qI) (r_rc (B := (bT M)) (c := 0) (lm_o hL) (rf_X2_isWord hL hm rfl)) ?_
          rintro pv8 v8 ev8
          change pv8 = v8.toInt at ev8; subst ev8
          refine r_ite (pc_eq rfl (eI (0 : Int32) (by decide))) ?_ ?_
          · exact r_some (qI_i (eI (-1 : Int32) (by decide)))
          · exact r_some (qI_i (eI (0 : Int32) (by decide)))
        · exact r_some (qI_i (eI (-1 : Int32) (by decide)))
def p_X2_behindOne (S : zP) : Option (Int × zP) :=
(p_X2_betweenOf S).bind fun v1 =>
if v1 < 0 then ((p_X2_openNow S).bind fun v2 =>
(p_X2_partOf S v2).bind fun v3 =>
if 0 ≤ v3 then ((p_X2_settle S 1).bind fun S4 =>
(p_X2_nextToken S4).bind fun S5 =>
if v3 ≤ 0 then (zlt (S5 0 17) fun v6 =>
p32 (v6 - 1) fun x1 =>
zlt (pup S5 0 17 x1) fun S7 =>
zlt (S7 0 16) fun v8 =>
p32 (v8 - 1) fun x2 =>
zlt (pup S7 0 16 x2) fun S9 =>
((if v2 = 43 then ((p_X2_emit S9 3 0).bind fun S12 =>
some (S12))
else (some (S9)) : Option zP)).bind fun S11 =>
(p_X2_settle S11 7).bind fun S13 =>
some ((1, S13)))
else ((p_X2_openAt S5).bind fun v15 =>
(past S5 5 160 v15 v3).bind fun S16 =>
zlt (pup S16 0 18 0) fun S17 =>
some ((1, S17))))
else (some ((0, S))))
else ((p_X2_rank v1).bind fun v18 =>
((if v18 = 4 then (some (5))
else ((p_X2_rank v1).bind fun v21 =>
some (v21)) : Option Int)).bind fun v20 =>
(p_X2_settle S v20).bind fun S22 =>
zlt (S22 0 16) fun v24 =>
(past S22 5 160 v24 v1).bind fun S25 =>
zlt (S25 0 16) fun v26 =>
p32 (v26 + 1) fun x3 =>
zlt (pup S25 0 16 x3) fun S27 =>
zlt (pup S27 0 18 0) fun S28 =>
(p_X2_nextToken S28).bind fun S29 =>
some ((1, S29)))
set_option maxHeartbeats 4000000 in
theorem rf_X2_behindOne {g : zGd} {M : Nat} {m0 : zMm} (hL : pLM g (zR m0) M) {m : zMm} (hm : pOk (bT M) m0 m) : pRf (qP qI (qM (bT M) m0)) (p_X2_behindOne (pI (bT M) m)) (f_X2_behindOne g m (some ((bT M).1 + 0))) := by
  unfold p_X2_behindOne f_X2_behindOne
  refine r_bind (A := qI) (r_rc (B := (bT M)) (c := 0) (lm_o hL) (rf_X2_betweenOf hL hm)) ?_
  rintro pv1 v1 ev1
  change pv1 = v1.toInt at ev1; subst ev1
  refine r_ite (pc_lt rfl (eI (0 : Int32) (by decide))) ?_ ?_
  · refine r_bind (A := qI) (r_rc (B := (bT M)) (c := 0) (lm_o hL) (rf_X2_openNow hL hm)) ?_
    rintro pv2 v2 ev2
    change pv2 = v2.toInt at ev2; subst ev2
    refine r_bind (A := qI) (r_rc (B := (bT M)) (c := 0) (lm_o hL) (rf_X2_partOf hL hm rfl)) ?_
    rintro pv3 v3 ev3
    change pv3 = v3.toInt at ev3; subst ev3
    refine r_ite (pc_le (eI (0 : Int32) (by decide)) rfl) ?_ ?_
    · refine r_bind (A := (qM (bT M) m0)) (r_rc (B := (bT M)) (c := 0) (lm_o hL) (rf_X2_settle hL hm (eI (1 : Int32) (by decide)))) ?_
      rintro S4 m4 ⟨em4, hm4⟩
      change S4 = pI (bT M) m4 at em4; subst em4
      refine r_bind (A := (qM (bT M) m0)) (r_rc (B := (bT M)) (c := 0) (lm_o hL) (rf_X2_nextToken hL hm4)) ?_
      rintro S5 m5 ⟨em5, hm5⟩
      change S5 = pI (bT M) m5 at em5; subst em5
      refine r_ite (pc_le rfl (eI (0 : Int32) (by decide))) ?_ ?_
      · refine r_gi (B := (bT M)) (c := 0) (i := 17) (lm_o hL) rfl rfl (fun v6 => ?_)
        refine r_p32 (px_sub (px_v _) (px_n (1 : Int32) (by decide))) ?_
        refine r_pi (B := (bT M)) (c := 0) (i := 17) hm5 (lm_o hL) hL.1 (wT (by omega)) rfl rfl rfl (fun m7 hm7 => ?_)
        refine r_gi (B := (bT M)) (c := 0) (i := 16) (lm_o hL) rfl rfl (fun v8 => ?_)
        refine r_p32 (px_sub (px_v _) (px_n (1 : Int32) (by decide))) ?_
        refine r_pi (B := (bT M)) (c := 0) (i := 16) hm7 (lm_o hL) hL.1 (wT (by omega)) rfl rfl rfl (fun m9 hm9 => ?_)
        refine r_bind (A := (qM (bT M) m0)) ?_ ?_
        · refine r_ite (pc_eq rfl (eI (43 : Int32) (by decide))) ?_ ?_
          · refine r_bind (A := (qM (bT M) m0)) (r_rc (B := (bT M)) (c := 0) (lm_o hL) (rf_X2_emit hL hm9 (eI (3 : Int32) (by decide)) (eI (0 : Int32) (by decide)))) ?_
            rintro S12 m12 ⟨em12, hm12⟩
            change S12 = pI (bT M) m12 at em12; subst em12
            exact r_some (qM_i hm12)
          · exact r_some (qM_i hm9)
        rintro S11 m11 ⟨em11, hm11⟩
        change S11 = pI (bT M) m11 at em11; subst em11
        refine r_bind (A := (qM (bT M) m0)) (r_rc (B := (bT M)) (c := 0) (lm_o hL) (rf_X2_settle hL hm11 (eI (7 : Int32) (by decide)))) ?_
        rintro S13 m13 ⟨em13, hm13⟩
        change S13 = pI (bT M) m13 at em13; subst em13
        exact r_some (qP_i (qI_i (eI (1 : Int32) (by decide))) (qM_i hm13))
      · refine r_gr (d := 5) hm5 (lm_o hL) (lm_f15 hL) ?_
        refine r_bind (A := qI) (r_rc (B := (bT M)) (c := 0) (lm_o hL) (rf_X2_openAt hL hm5)) ?_
        rintro pv15 v15 ev15
        change pv15 = v15.toInt at ev15; subst ev15
        refine r_ast hm5 (lm_k5 hL) hL.1 (wT (by omega)) rfl rfl (fun _ => rfl) (fun m16 hm16 => ?_)
        refine r_pz (B := (bT M)) (c := 0) (i := 18) (by decide) hm16 (lm_o hL) hL.1 (wT (by omega)) rfl rfl (eI (0 : Int32) (by decide)) (fun m17 hm17 => ?_)
        exact r_some (qP_i (qI_i (eI (1 : Int32) (by decide))) (qM_i hm17))
    · exact r_some (qP_i (qI_i (eI (0 : Int32) (by decide))) (qM_i hm))
  · refine r_bind (A := qI) (rf_X2_rank rfl) ?_
    rintro pv18 v18 ev18
    change pv18 = v18.toInt at ev18; subst ev18
    refine r_bind (A := qI) ?_ ?_
    · refine r_ite (pc_eq rfl (eI (4 : Int32) (by decide))) ?_ ?_
      · exact r_some (qI_i (eI (5 : Int32) (by decide)))
      · refine r_bind (A := qI) (rf_X2_rank rfl) ?_
        rintro pv21 v21 ev21
        change pv21 = v21.toInt at ev21; subst ev21
        exact r_some (qI_i rfl)
    rintro pv20 v20 ev20
    change pv20 = v20.toInt at ev20; subst ev20
    refine r_bind (A := (qM (bT M) m0)) (r_rc (B := (bT M)) (c := 0) (lm_o hL) (rf_X2_settle hL hm rfl)) ?_
    rintro S22 m22 ⟨em22, hm22⟩
    change S22 = pI (bT M) m22 at em22; subst em22
    refine r_gr (d := 5) hm22 (lm_o hL) (lm_f15 hL) ?_
    refine r_gi (B := (bT M)) (c := 0) (i := 16) (lm_o hL) rfl rfl (fun v24 => ?_)
    refine r_ast hm22 (lm_k5 hL) hL.1 (wT (by omega)) rfl rfl (fun _ => rfl) (fun m25 hm25 => ?_)
    refine r_gi (B := (bT M)) (c := 0) (i := 16) (lm_o hL) rfl rfl (fun v26 => ?_)
    refine r_p32 (px_add (px_v _) (px_n (1 : Int32) (by decide))) ?_
    refine r_pi (B := (bT M)) (c := 0) (i := 16) hm25 (lm_o hL) hL.1 (wT (by omega)) rfl rfl rfl (fun m27 hm27 => ?_)
    refine r_pz (B := (bT M)) (c := 0) (i := 18) (by decide) hm27 (lm_o hL) hL.1 (wT (by omega)) rfl rfl (eI (0 : Int32) (by decide)) (fun m28 hm28 => ?_)
    refine r_bind (A := (qM (bT M) m0)) (r_rc (B := (bT M)) (c := 0) (lm_o hL) (rf_X2_nextToken hL hm28)) ?_
    rintro S29 m29 ⟨em29, hm29⟩
    change S29 = pI (bT M) m29 at em29; subst em29
    exact r_some (qP_i (qI_i (eI (1 : Int32) (by decide))) (qM_i hm29))
def pb_X2_summed_15  : zP → Option ((Int × zP) ⊕ zP) := fun S5 =>
zlt (S5 0 18) fun v6 =>
if v6 = 0 then ((p_X2_beginOne S5).bind fun (v7, S8) =>
if v7 = 0 then (some (.inr S8))
else (some (.inl (v7, S8))))
else ((p_X2_behindOne S5).bind fun (v9, S10) =>
if v9 = 0 then ((p_X2_openNow S10).bind fun v11 =>
if v11 < 0 then ((p_X2_settle S10 1).bind fun S12 =>
some (.inl (0, S12)))
else (some (.inl (1, S10))))
else (some (.inr S10)))
set_option maxHeartbeats 4000000 in
theorem rb_X2_summed_15 {g : zGd} {M : Nat} {m0 : zMm} (hL : pLM g (zR m0) M)  : ∀ s t, (qM (bT M) m0) s t → pRf (qS (qP qI (qM (bT M) m0)) (qM (bT M) m0)) (pb_X2_summed_15 s) (b_X2_summed_15 g (some ((bT M).1 + 0)) t) := by
  rintro S5 m5 ⟨em5, hm5⟩
  change S5 = pI (bT M) m5 at em5; subst em5
  unfold pb_X2_summed_15 b_X2_summed_15
  try dsimp only
  refine r_gi (B := (bT M)) (c := 0) (i := 18) (lm_o hL) rfl rfl (fun v6 => ?_)
  refine r_ite (pc_eq rfl (eI (0 : Int32) (by decide))) ?_ ?_
  · refine r_bind (A := (qP qI (qM (bT M) m0))) (r_rc (B := (bT M)) (c := 0) (lm_o hL) (rf_X2_beginOne hL hm5)) ?_
    rintro ⟨pv7, S8⟩ ⟨v7, m8⟩ ⟨ev7, ⟨em8, hm8⟩⟩
    change pv7 = v7.toInt at ev7; subst ev7
    change S8 = pI (bT M) m8 at em8; subst em8
    refine r_ite (pc_eq rfl (eI (0 : Int32) (by decide))) ?_ ?_
    · exact r_some (qS_r (qM_i hm8))
    · exact r_some (qS_l (qP_i (qI_i rfl) (qM_i hm8)))
  · refine r_bind (A := (qP qI (qM (bT M) m0))) (r_rc (B := (bT M)) (c := 0) (lm_o hL) (rf_X2_behindOne hL hm5)) ?_
    rintro ⟨pv9, S10⟩ ⟨v9, m10⟩ ⟨ev9, ⟨em10, hm10⟩⟩
    change pv9 = v9.toInt at ev9; subst ev9
    change S10 = pI (bT M) m10 at em10; subst em10
    refine r_ite (pc_eq rfl (eI (0 : Int32) (by decide))) ?_ ?_
    · refine r_bind (A := qI) (r_rc (B := (bT M)) (c := 0) (lm_o hL) (rf_X2_openNow hL hm10)) ?_
      rintro pv11 v11 ev11
      change pv11 = v11.toInt at ev11; subst ev11
      refine r_ite (pc_lt rfl (eI (0 : Int32) (by decide))) ?_ ?_
      · refine r_bind (A := (qM (bT M) m0)) (r_rc (B := (bT M)) (c := 0) (lm_o hL) (rf_X2_settle hL hm10 (eI (1 : Int32) (by decide)))) ?_
        rintro S12 m12 ⟨em12, hm12⟩
        change S12 = pI (bT M) m12 at em12; subst em12
        exact r_some (qS_l (qP_i (qI_i (eI (0 : Int32) (by decide))) (qM_i hm12)))
      · exact r_some (qS_l (qP_i (qI_i (eI (1 : Int32) (by decide))) (qM_i hm10)))
    · exact r_some (qS_r (qM_i hm10))
def p_X2_summed (S : zP) : Option (Int × zP) :=
zlt (pup S 0 16 0) fun S1 =>
zlt (pup S1 0 17 0) fun S2 =>
zlt (pup S2 0 18 0) fun S3 =>
zLoop pb_X2_summed_15 zFuel S3
set_option maxHeartbeats 4000000 in
theorem rf_X2_summed {g : zGd} {M : Nat} {m0 : zMm} (hL : pLM g (zR m0) M) {m : zMm} (hm : pOk (bT M) m0 m) : pRf (qP qI (qM (bT M) m0)) (p_X2_summed (pI (bT M) m)) (f_X2_summed g m (some ((bT M).1 + 0))) := by
  unfold p_X2_summed f_X2_summed
  refine r_pi (B := (bT M)) (c := 0) (i := 16) hm (lm_o hL) hL.1 (wT (by omega)) rfl rfl (eI (0 : Int32) (by decide)) (fun m1 hm1 => ?_)
  refine r_pi (B := (bT M)) (c := 0) (i := 17) hm1 (lm_o hL) hL.1 (wT (by omega)) rfl rfl (eI (0 : Int32) (by decide)) (fun m2 hm2 => ?_)
  refine r_pz (B := (bT M)) (c := 0) (i := 18) (by decide) hm2 (lm_o hL) hL.1 (wT (by omega)) rfl rfl (eI (0 : Int32) (by decide)) (fun m3 hm3 => ?_)
  exact (r_loop (rb_X2_summed_15 hL) zFuel _ _ (qM_i hm3))
def p_X2_lawClause (S : zP) (a1 : Int) : Option (Int × zP) :=
zlt (S 0 13) fun v2 =>
p32 (a1 + 1) fun x1 =>
(past S 3 2724 x1 v2).bind fun S3 =>
(p_X2_summed S3).bind fun (v4, S5) =>
zlt (S5 0 13) fun v7 =>
p32 (a1 + 2) fun x2 =>
(past S5 3 2724 x2 v7).bind fun S8 =>
some ((v4, S8))
set_option maxHeartbeats 4000000 in
theorem rf_X2_lawClause {g : zGd} {M : Nat} {m0 : zMm} (hL : pLM g (zR m0) M) {m : zMm} (hm : pOk (bT M) m0 m) {pa1 : Int} {a1 : Int32} (ea1 : pa1 = a1.toInt) : pRf (qP qI (qM (bT M) m0)) (p_X2_lawClause (pI (bT M) m) pa1) (f_X2_lawClause g m (some ((bT M).1 + 0)) a1) := by
  subst ea1
  unfold p_X2_lawClause f_X2_lawClause
  refine r_gr (d := 3) hm (lm_o hL) (lm_f2 hL) ?_
  refine r_gi (B := (bT M)) (c := 0) (i := 13) (lm_o hL) rfl rfl (fun v2 => ?_)
  refine r_p32 (px_add (px_v _) (px_n (1 : Int32) (by decide))) ?_
  refine r_ast hm (lm_k3 hL) hL.1 (wT (by omega)) rfl rfl (fun _ => rfl) (fun m3 hm3 => ?_)
  refine r_bind (A := (qP qI (qM (bT M) m0))) (r_rc (B := (bT M)) (c := 0) (lm_o hL) (rf_X2_summed hL hm3)) ?_
  rintro ⟨pv4, S5⟩ ⟨v4, m5⟩ ⟨ev4, ⟨em5, hm5⟩⟩
  change pv4 = v4.toInt at ev4; subst ev4
  change S5 = pI (bT M) m5 at em5; subst em5
  refine r_gr (d := 3) hm5 (lm_o hL) (lm_f2 hL) ?_
  refine r_gi (B := (bT M)) (c := 0) (i := 13) (lm_o hL) rfl rfl (fun v7 => ?_)
  refine r_p32 (px_add (px_v _) (px_n (2 : Int32) (by decide))) ?_
  refine r_ast hm5 (lm_k3 hL) hL.1 (wT (by omega)) rfl rfl (fun _ => rfl) (fun m8 hm8 => ?_)
  exact r_some (qP_i (qI_i rfl) (qM_i hm8))
def p_X2_pair (S : zP) (a1 : Int) (a2 : Int) (a3 : Int) (a5 : Int) (a6 : Int) : Option (Int × zP) :=
p32 (a1 + 1) fun x1 =>
(p_X2_figure S x1 0 a2).bind fun (v1, S2) =>
if v1 = 0 then ((p_X2_isWord S2 a3).bind fun v3 =>
if v3 = 0 then (some ((1, S2)))
else ((p_X2_nextToken S2).bind fun S4 =>
p32 (a1 + 2) fun x2 =>
(p_X2_figure S4 x2 a5 a6).bind fun (v5, S6) =>
some ((v5, S6))))
else (some ((v1, S2)))
set_option maxHeartbeats 4000000 in
theorem rf_X2_pair {g : zGd} {M : Nat} {m0 : zMm} (hL : pLM g (zR m0) M) {m : zMm} (hm : pOk (bT M) m0 m) {pa1 : Int} {a1 : Int32} (ea1 : pa1 = a1.toInt) {pa2 : Int} {a2 : Int32} (ea2 : pa2 = a2.toInt) {pa3 : Int} {a3 : Int64} (ea3 : pa3 = a3.toInt) {pa5 : Int} {a5 : Int32} (ea5 : pa5 = a5.toInt) {pa6 : Int} {a6 : Int32} (ea6 : pa6 = a6.toInt) : pRf (qP qI (qM (bT M) m0)) (p_X2_pair (pI (bT M) m) pa1 pa2 pa3 pa5 pa6) (f_X2_pair g m (some ((bT M).1 + 0)) a1 a2 a3 a5 a6) := by
  subst ea1
  subst ea2
  subst ea3
  subst ea5
  subst ea6
  unfold p_X2_pair f_X2_pair
  refine r_p32 (px_add (px_v _) (px_n (1 : Int32) (by decide))) ?_
  refine r_bind (A := (qP qI (qM (bT M) m0))) (r_rc (B := (bT M)) (c := 0) (lm_o hL) (rf_X2_figure hL hm rfl (eI (0 : Int32) (by decide)) rfl)) ?_
  rintro ⟨pv1, S2⟩ ⟨v1, m2⟩ ⟨ev1, ⟨em2, hm2⟩⟩
  change pv1 = v1.toInt at ev1; subst ev1
  change S2 = pI (bT M) m2 at em2; subst em2
  refine r_ite (pc_eq rfl (eI (0 : Int32) (by decide))) ?_ ?_
  · refine r_bind (A := qI) (r_rc (B := (bT M)) (c := 0) (lm_o hL) (rf_X2_isWord hL hm2 rfl)) ?_
    rintro pv3 v3 ev3
    change pv3 = v3.toInt at ev3; subst ev3
    refine r_ite (pc_eq rfl (eI (0 : Int32) (by decide))) ?_ ?_
    · exact r_some (qP_i (qI_i (eI (1 : Int32) (by decide))) (qM_i hm2))
    · refine r_bind (A := (qM (bT M) m0)) (r_rc (B := (bT M)) (c := 0) (lm_o hL) (rf_X2_nextToken hL hm2)) ?_
      rintro S4 m4 ⟨em4, hm4⟩
      change S4 = pI (bT M) m4 at em4; subst em4
      refine r_p32 (px_add (px_v _) (px_n (2 : Int32) (by decide))) ?_
      refine r_bind (A := (qP qI (qM (bT M) m0))) (r_rc (B := (bT M)) (c := 0) (lm_o hL) (rf_X2_figure hL hm4 rfl rfl rfl)) ?_
      rintro ⟨pv5, S6⟩ ⟨v5, m6⟩ ⟨ev5, ⟨em6, hm6⟩⟩
      change pv5 = v5.toInt at ev5; subst ev5
      change S6 = pI (bT M) m6 at em6; subst em6
      exact r_some (qP_i (qI_i rfl) (qM_i hm6))
  · exact r_some (qP_i (qI_i rfl) (qM_i hm2))
def p_X2_body (S : zP) (a1 : Int) (a2 : Int) : Option (Int × zP) :=
if a1 = 2 then ((p_X2_w4 107 101 112 116).bind fun w1 =>
(p_X2_pair S a2 9 w1 0 99).bind fun (v2, S3) =>
some ((v2, S3)))
else (if a1 = 3 then (p32 (a2 + 1) fun x1 =>
(p_X2_figure S x1 0 5).bind fun (v4, S5) =>
some ((v4, S5)))
else (if a1 = 4 then ((p_X2_w2 98 121).bind fun w6 =>
(p_X2_pair S a2 5 w6 1 99).bind fun (v7, S8) =>
some ((v7, S8)))
else (if a1 = 5 then (p32 (a2 + 1) fun x2 =>
(p_X2_figure S x2 0 5).bind fun (v9, S10) =>
some ((v9, S10)))
else (if a1 = 6 then ((p_X2_w4 119 105 116 104).bind fun w11 =>
(p_X2_pair S a2 5 w11 0 5).bind fun (v12, S13) =>
some ((v12, S13)))
else (if a1 = 7 then (p32 (a2 + 1) fun x3 =>
(p_X2_figure S x3 1 60).bind fun (v14, S15) =>
some ((v14, S15)))
else ((p_X2_lawClause S a2).bind fun (v16, S17) =>
some ((v16, S17))))))))
set_option maxHeartbeats 4000000 in
theorem rf_X2_body {g : zGd} {M : Nat} {m0 : zMm} (hL : pLM g (zR m0) M) {m : zMm} (hm : pOk (bT M) m0 m) {pa1 : Int} {a1 : Int32} (ea1 : pa1 = a1.toInt) {pa2 : Int} {a2 : Int32} (ea2 : pa2 = a2.toInt) : pRf (qP qI (qM (bT M) m0)) (p_X2_body (pI (bT M) m) pa1 pa2) (f_X2_body g m (some ((bT M).1 + 0)) a1 a2) := by
  subst ea1
  subst ea2
  unfold p_X2_body f_X2_body
  refine r_ite (pc_eq rfl (eI (2 : Int32) (by decide))) ?_ ?_
  · refine r_bind (A := qJ) (rf_X2_w4 (eI (107 : Int32) (by decide)) (eI (101 : Int32) (by decide)) (eI (112 : Int32) (by decide)) (eI (116 : Int32) (by decide))) ?_
    rintro pw1 w1 ew1
    change pw1 = w1.toInt at ew1; subst ew1
    refine r_bind (A := (qP qI (qM (bT M) m0))) (r_rc (B := (bT M)) (c := 0) (lm_o hL) (rf_X2_pair hL hm rfl (eI (9 : Int32) (by decide)) rfl (eI (0 : Int32) (by decide)) (eI (99 : Int32) (by decide)))) ?_
    rintro ⟨pv2, S3⟩ ⟨v2, m3⟩ ⟨ev2, ⟨em3, hm3⟩⟩
    change pv2 = v2.toInt at ev2; subst ev2
    change S3 = pI (bT M) m3 at em3; subst em3
    exact r_some (qP_i (qI_i rfl) (qM_i hm3))
  · refine r_ite (pc_eq rfl (eI (3 : Int32) (by decide))) ?_ ?_
    · refine r_p32 (px_add (px_v _) (px_n (1 : Int32) (by decide))) ?_
      refine r_bind (A := (qP qI (qM (bT M) m0))) (r_rc (B := (bT M)) (c := 0) (lm_o hL) (rf_X2_figure hL hm rfl (eI (0 : Int32) (by decide)) (eI (5 : Int32) (by decide)))) ?_
      rintro ⟨pv4, S5⟩ ⟨v4, m5⟩ ⟨ev4, ⟨em5, hm5⟩⟩
      change pv4 = v4.toInt at ev4; subst ev4
      change S5 = pI (bT M) m5 at em5; subst em5
      exact r_some (qP_i (qI_i rfl) (qM_i hm5))
    · refine r_ite (pc_eq rfl (eI (4 : Int32) (by decide))) ?_ ?_
      · refine r_bind (A := qJ) (rf_X2_w2 (eI (98 : Int32) (by decide)) (eI (121 : Int32) (by decide))) ?_
        rintro pw6 w6 ew6
        change pw6 = w6.toInt at ew6; subst ew6
        refine r_bind (A := (qP qI (qM (bT M) m0))) (r_rc (B := (bT M)) (c := 0) (lm_o hL) (rf_X2_pair hL hm rfl (eI (5 : Int32) (by decide)) rfl (eI (1 : Int32) (by decide)) (eI (99 : Int32) (by decide)))) ?_
        rintro ⟨pv7, S8⟩ ⟨v7, m8⟩ ⟨ev7, ⟨em8, hm8⟩⟩
        change pv7 = v7.toInt at ev7; subst ev7
        change S8 = pI (bT M) m8 at em8; subst em8
        exact r_some (qP_i (qI_i rfl) (qM_i hm8))
      · refine r_ite (pc_eq rfl (eI (5 : Int32) (by decide))) ?_ ?_
        · refine r_p32 (px_add (px_v _) (px_n (1 : Int32) (by decide))) ?_
          refine r_bind (A := (qP qI (qM (bT M) m0))) (r_rc (B := (bT M)) (c := 0) (lm_o hL) (rf_X2_figure hL hm rfl (eI (0 : Int32) (by decide)) (eI (5 : Int32) (by decide)))) ?_
          rintro ⟨pv9, S10⟩ ⟨v9, m10⟩ ⟨ev9, ⟨em10, hm10⟩⟩
          change pv9 = v9.toInt at ev9; subst ev9
          change S10 = pI (bT M) m10 at em10; subst em10
          exact r_some (qP_i (qI_i rfl) (qM_i hm10))
        · refine r_ite (pc_eq rfl (eI (6 : Int32) (by decide))) ?_ ?_
          · refine r_bind (A := qJ) (rf_X2_w4 (eI (119 : Int32) (by decide)) (eI (105 : Int32) (by decide)) (eI (116 : Int32) (by decide)) (eI (104 : Int32) (by decide))) ?_
            rintro pw11 w11 ew11
            change pw11 = w11.toInt at ew11; subst ew11
            refine r_bind (A := (qP qI (qM (bT M) m0))) (r_rc (B := (bT M)) (c := 0) (lm_o hL) (rf_X2_pair hL hm rfl (eI (5 : Int32) (by decide)) rfl (eI (0 : Int32) (by decide)) (eI (5 : Int32) (by decide)))) ?_
            rintro ⟨pv12, S13⟩ ⟨v12, m13⟩ ⟨ev12, ⟨em13, hm13⟩⟩
            change pv12 = v12.toInt at ev12; subst ev12
            change S13 = pI (bT M) m13 at em13; subst em13
            exact r_some (qP_i (qI_i rfl) (qM_i hm13))
          · refine r_ite (pc_eq rfl (eI (7 : Int32) (by decide))) ?_ ?_
            · refine r_p32 (px_add (px_v _) (px_n (1 : Int32) (by decide))) ?_
              refine r_bind (A := (qP qI (qM (bT M) m0))) (r_rc (B := (bT M)) (c := 0) (lm_o hL) (rf_X2_figure hL hm rfl (eI (1 : Int32) (by decide)) (eI (60 : Int32) (by decide)))) ?_
              rintro ⟨pv14, S15⟩ ⟨v14, m15⟩ ⟨ev14, ⟨em15, hm15⟩⟩
              change pv14 = v14.toInt at ev14; subst ev14
              change S15 = pI (bT M) m15 at em15; subst em15
              exact r_some (qP_i (qI_i rfl) (qM_i hm15))
            · refine r_bind (A := (qP qI (qM (bT M) m0))) (r_rc (B := (bT M)) (c := 0) (lm_o hL) (rf_X2_lawClause hL hm rfl)) ?_
              rintro ⟨pv16, S17⟩ ⟨v16, m17⟩ ⟨ev16, ⟨em17, hm17⟩⟩
              change pv16 = v16.toInt at ev16; subst ev16
              change S17 = pI (bT M) m17 at em17; subst em17
              exact r_some (qP_i (qI_i rfl) (qM_i hm17))
def p_X2_has (a0 : Int) (a1 : Int) : Option Int :=
zlt (pshr a0 a1) fun x1 =>
zlt (pand x1 1) fun x2 =>
if x2 = 1 then (some (1))
else (some (0))
set_option maxHeartbeats 4000000 in
theorem rf_X2_has {pa0 : Int} {a0 : Int32} (ea0 : pa0 = a0.toInt) {pa1 : Int} {a1 : Int32} (ea1 : pa1 = a1.toInt) : pRf qI (p_X2_has pa0 pa1) (f_X2_has a0 a1) := by
  subst ea0
  subst ea1
  unfold p_X2_has f_X2_has
  refine r_x32 (pe_shr rfl rfl) ?_
  refine r_x32 (pe_and rfl (eI (1 : Int32) (by decide))) ?_
  refine r_ite (pc_eq rfl (eI (1 : Int32) (by decide))) ?_ ?_
  · exact r_some (qI_i (eI (1 : Int32) (by decide)))
  · exact r_some (qI_i (eI (0 : Int32) (by decide)))
def p_X2_isReaches (S : zP) : Option Int :=
zlt (S 0 9) fun v1 =>
if v1 = 2 then (zlt (S 0 7) fun v2 =>
zlt (S 0 8) fun v3 =>
p32 (v2 - v3) fun x1 =>
if x1 = 7 then (zlt (S 0 8) fun v4 =>
(p_X2_byteAt S v4).bind fun v5 =>
zlt (S 0 8) fun v6 =>
p32 (v6 + 1) fun x2 =>
(p_X2_byteAt S x2).bind fun v7 =>
zlt (S 0 8) fun v8 =>
p32 (v8 + 2) fun x3 =>
(p_X2_byteAt S x3).bind fun v9 =>
zlt (S 0 8) fun v10 =>
p32 (v10 + 3) fun x4 =>
(p_X2_byteAt S x4).bind fun v11 =>
(p_X2_w4 v5 v7 v9 v11).bind fun w12 =>
(p_X2_w4 114 101 97 99).bind fun w13 =>
if w12 = w13 then (zlt (S 0 8) fun v14 =>
p32 (v14 + 4) fun x5 =>
(p_X2_byteAt S x5).bind fun v15 =>
zlt (S 0 8) fun v16 =>
p32 (v16 + 5) fun x6 =>
(p_X2_byteAt S x6).bind fun v17 =>
zlt (S 0 8) fun v18 =>
p32 (v18 + 6) fun x7 =>
(p_X2_byteAt S x7).bind fun v19 =>
(p_X2_w3 v15 v17 v19).bind fun w20 =>
(p_X2_w3 104 101 115).bind fun w21 =>
if w20 = w21 then (some (1))
else (some (0)))
else (some (0)))
else (some (0)))
else (some (0))
set_option maxHeartbeats 4000000 in
theorem rf_X2_isReaches {g : zGd} {M : Nat} {m0 : zMm} (hL : pLM g (zR m0) M) {m : zMm} (hm : pOk (bT M) m0 m) : pRf qI (p_X2_isReaches (pI (bT M) m)) (f_X2_isReaches g m (some ((bT M).1 + 0))) := by
  unfold p_X2_isReaches f_X2_isReaches
  refine r_gi (B := (bT M)) (c := 0) (i := 9) (lm_o hL) rfl rfl (fun v1 => ?_)
  refine r_ite (pc_eq rfl (eI (2 : Int32) (by decide))) ?_ ?_
  · refine r_gi (B := (bT M)) (c := 0) (i := 7) (lm_o hL) rfl rfl (fun v2 => ?_)
    refine r_gi (B := (bT M)) (c := 0) (i := 8) (lm_o hL) rfl rfl (fun v3 => ?_)
    refine r_p32 (px_sub (px_v _) (px_v _)) ?_
    refine r_ite (pc_eq rfl (eI (7 : Int32) (by decide))) ?_ ?_
    · refine r_gi (B := (bT M)) (c := 0) (i := 8) (lm_o hL) rfl rfl (fun v4 => ?_)
      refine r_bind (A := qI) (r_rc (B := (bT M)) (c := 0) (lm_o hL) (rf_X2_byteAt hL hm rfl)) ?_
      rintro pv5 v5 ev5
      change pv5 = v5.toInt at ev5; subst ev5
      refine r_gi (B := (bT M)) (c := 0) (i := 8) (lm_o hL) rfl rfl (fun v6 => ?_)
      refine r_p32 (px_add (px_v _) (px_n (1 : Int32) (by decide))) ?_
      refine r_bind (A := qI) (r_rc (B := (bT M)) (c := 0) (lm_o hL) (rf_X2_byteAt hL hm rfl)) ?_
      rintro pv7 v7 ev7
      change pv7 = v7.toInt at ev7; subst ev7
      refine r_gi (B := (bT M)) (c := 0) (i := 8) (lm_o hL) rfl rfl (fun v8 => ?_)
      refine r_p32 (px_add (px_v _) (px_n (2 : Int32) (by decide))) ?_
      refine r_bind (A := qI) (r_rc (B := (bT M)) (c := 0) (lm_o hL) (rf_X2_byteAt hL hm rfl)) ?_
      rintro pv9 v9 ev9
      change pv9 = v9.toInt at ev9; subst ev9
      refine r_gi (B := (bT M)) (c := 0) (i := 8) (lm_o hL) rfl rfl (fun v10 => ?_)
      refine r_p32 (px_add (px_v _) (px_n (3 : Int32) (by decide))) ?_
      refine r_bind (A := qI) (r_rc (B := (bT M)) (c := 0) (lm_o hL) (rf_X2_byteAt hL hm rfl)) ?_
      rintro pv11 v11 ev11
      change pv11 = v11.toInt at ev11; subst ev11
      refine r_bind (A := qJ) (rf_X2_w4 rfl rfl rfl rfl) ?_
      rintro pw12 w12 ew12
      change pw12 = w12.toInt at ew12; subst ew12
      refine r_bind (A := qJ) (rf_X2_w4 (eI (114 : Int32) (by decide)) (eI (101 : Int32) (by decide)) (eI (97 : Int32) (by decide)) (eI (99 : Int32) (by decide))) ?_
      rintro pw13 w13 ew13
      change pw13 = w13.toInt at ew13; subst ew13
      refine r_ite (pcj_eq rfl rfl) ?_ ?_
      · refine r_gi (B := (bT M)) (c := 0) (i := 8) (lm_o hL) rfl rfl (fun v14 => ?_)
        refine r_p32 (px_add (px_v _) (px_n (4 : Int32) (by decide))) ?_
        refine r_bind (A := qI) (r_rc (B := (bT M)) (c := 0) (lm_o hL) (rf_X2_byteAt hL hm rfl)) ?_
        rintro pv15 v15 ev15
        change pv15 = v15.toInt at ev15; subst ev15
        refine r_gi (B := (bT M)) (c := 0) (i := 8) (lm_o hL) rfl rfl (fun v16 => ?_)
        refine r_p32 (px_add (px_v _) (px_n (5 : Int32) (by decide))) ?_
        refine r_bind (A := qI) (r_rc (B := (bT M)) (c := 0) (lm_o hL) (rf_X2_byteAt hL hm rfl)) ?_
        rintro pv17 v17 ev17
        change pv17 = v17.toInt at ev17; subst ev17
        refine r_gi (B := (bT M)) (c := 0) (i := 8) (lm_o hL) rfl rfl (fun v18 => ?_)
        refine r_p32 (px_add (px_v _) (px_n (6 : Int32) (by decide))) ?_
        refine r_bind (A := qI) (r_rc (B := (bT M)) (c := 0) (lm_o hL) (rf_X2_byteAt hL hm rfl)) ?_
        rintro pv19 v19 ev19
        change pv19 = v19.toInt at ev19; subst ev19
        refine r_bind (A := qJ) (rf_X2_w3 rfl rfl rfl) ?_
        rintro pw20 w20 ew20
        change pw20 = w20.toInt at ew20; subst ew20
        refine r_bind (A := qJ) (rf_X2_w3 (eI (104 : Int32) (by decide)) (eI (101 : Int32) (by decide)) (eI (115 : Int32) (by decide))) ?_
        rintro pw21 w21 ew21
        change pw21 = w21.toInt at ew21; subst ew21
        refine r_ite (pcj_eq rfl rfl) ?_ ?_
        · exact r_some (qI_i (eI (1 : Int32) (by decide)))
        · exact r_some (qI_i (eI (0 : Int32) (by decide)))
      · exact r_some (qI_i (eI (0 : Int32) (by decide)))
    · exact r_some (qI_i (eI (0 : Int32) (by decide)))
  · exact r_some (qI_i (eI (0 : Int32) (by decide)))
def p_X2_sortOf (S : zP) : Option Int :=
(p_X2_isReaches S).bind fun v1 =>
if v1 = 0 then ((p_X2_w5 98 101 97 114 115).bind fun w2 =>
(p_X2_isWord S w2).bind fun v3 =>
if v3 = 0 then ((p_X2_w3 107 105 110).bind fun w4 =>
(p_X2_isWord S w4).bind fun v5 =>
if v5 = 0 then ((p_X2_w5 114 101 97 99 104).bind fun w6 =>
(p_X2_isWord S w6).bind fun v7 =>
if v7 = 0 then ((p_X2_w4 100 111 119 110).bind fun w8 =>
(p_X2_isWord S w8).bind fun v9 =>
if v9 = 0 then ((p_X2_w5 115 116 114 97 112).bind fun w10 =>
(p_X2_isWord S w10).bind fun v11 =>
if v11 = 0 then ((p_X2_w4 115 119 97 112).bind fun w12 =>
(p_X2_isWord S w12).bind fun v13 =>
if v13 = 0 then ((p_X2_w6 100 105 110 110 101 114).bind fun w14 =>
(p_X2_isWord S w14).bind fun v15 =>
if v15 = 0 then (some ((-1)))
else (some (7)))
else (some (6)))
else (some (5)))
else (some (4)))
else (some (3)))
else (some (2)))
else (some (1)))
else (some (0))
set_option maxHeartbeats 4000000 in
theorem rf_X2_sortOf {g : zGd} {M : Nat} {m0 : zMm} (hL : pLM g (zR m0) M) {m : zMm} (hm : pOk (bT M) m0 m) : pRf qI (p_X2_sortOf (pI (bT M) m)) (f_X2_sortOf g m (some ((bT M).1 + 0))) := by
  unfold p_X2_sortOf f_X2_sortOf
  refine r_bind (A := qI) (r_rc (B := (bT M)) (c := 0) (lm_o hL) (rf_X2_isReaches hL hm)) ?_
  rintro pv1 v1 ev1
  change pv1 = v1.toInt at ev1; subst ev1
  refine r_ite (pc_eq rfl (eI (0 : Int32) (by decide))) ?_ ?_
  · refine r_bind (A := qJ) (rf_X2_w5 (eI (98 : Int32) (by decide)) (eI (101 : Int32) (by decide)) (eI (97 : Int32) (by decide)) (eI (114 : Int32) (by decide)) (eI (115 : Int32) (by decide))) ?_
    rintro pw2 w2 ew2
    change pw2 = w2.toInt at ew2; subst ew2
    refine r_bind (A := qI) (r_rc (B := (bT M)) (c := 0) (lm_o hL) (rf_X2_isWord hL hm rfl)) ?_
    rintro pv3 v3 ev3
    change pv3 = v3.toInt at ev3; subst ev3
    refine r_ite (pc_eq rfl (eI (0 : Int32) (by decide))) ?_ ?_
    · refine r_bind (A := qJ) (rf_X2_w3 (eI (107 : Int32) (by decide)) (eI (105 : Int32) (by decide)) (eI (110 : Int32) (by decide))) ?_
      rintro pw4 w4 ew4
      change pw4 = w4.toInt at ew4; subst ew4
      refine r_bind (A := qI) (r_rc (B := (bT M)) (c := 0) (lm_o hL) (rf_X2_isWord hL hm rfl)) ?_
      rintro pv5 v5 ev5
      change pv5 = v5.toInt at ev5; subst ev5
      refine r_ite (pc_eq rfl (eI (0 : Int32) (by decide))) ?_ ?_
      · refine r_bind (A := qJ) (rf_X2_w5 (eI (114 : Int32) (by decide)) (eI (101 : Int32) (by decide)) (eI (97 : Int32) (by decide)) (eI (99 : Int32) (by decide)) (eI (104 : Int32) (by decide))) ?_
        rintro pw6 w6 ew6
        change pw6 = w6.toInt at ew6; subst ew6
        refine r_bind (A := qI) (r_rc (B := (bT M)) (c := 0) (lm_o hL) (rf_X2_isWord hL hm rfl)) ?_
        rintro pv7 v7 ev7
        change pv7 = v7.toInt at ev7; subst ev7
        refine r_ite (pc_eq rfl (eI (0 : Int32) (by decide))) ?_ ?_
        · refine r_bind (A := qJ) (rf_X2_w4 (eI (100 : Int32) (by decide)) (eI (111 : Int32) (by decide)) (eI (119 : Int32) (by decide)) (eI (110 : Int32) (by decide))) ?_
          rintro pw8 w8 ew8
          change pw8 = w8.toInt at ew8; subst ew8
          refine r_bind (A := qI) (r_rc (B := (bT M)) (c := 0) (lm_o hL) (rf_X2_isWord hL hm rfl)) ?_
          rintro pv9 v9 ev9
          change pv9 = v9.toInt at ev9; subst ev9
          refine r_ite (pc_eq rfl (eI (0 : Int32) (by decide))) ?_ ?_
          · refine r_bind (A := qJ) (rf_X2_w5 (eI (115 : Int32) (by decide)) (eI (116 : Int32) (by decide)) (eI (114 : Int32) (by decide)) (eI (97 : Int32) (by decide)) (eI (112 : Int32) (by decide))) ?_
            rintro pw10 w10 ew10
            change pw10 = w10.toInt at ew10; subst ew10
            refine r_bind (A := qI) (r_rc (B := (bT M)) (c := 0) (lm_o hL) (rf_X2_isWord hL hm rfl)) ?_
            rintro pv11 v11 ev11
            change pv11 = v11.toInt at ev11; subst ev11
            refine r_ite (pc_eq rfl (eI (0 : Int32) (by decide))) ?_ ?_
            · refine r_bind (A := qJ) (rf_X2_w4 (eI (115 : Int32) (by decide)) (eI (119 : Int32) (by decide)) (eI (97 : Int32) (by decide)) (eI (112 : Int32) (by decide))) ?_
              rintro pw12 w12 ew12
              change pw12 = w12.toInt at ew12; subst ew12
              refine r_bind (A := qI) (r_rc (B := (bT M)) (c := 0) (lm_o hL) (rf_X2_isWord hL hm rfl)) ?_
              rintro pv13 v13 ev13
              change pv13 = v13.toInt at ev13; subst ev13
              refine r_ite (pc_eq rfl (eI (0 : Int32) (by decide))) ?_ ?_
              · refine r_bind (A := qJ) (rf_X2_w6 (eI (100 : Int32) (by decide)) (eI (105 : Int32) (by decide)) (eI (110 : Int32) (by decide)) (eI (110 : Int32) (by decide)) (eI (101 : Int32) (by decide)) (eI (114 : Int32) (by decide))) ?_
                rintro pw14 w14 ew14
                change pw14 = w14.toInt at ew14; subst ew14
                refine r_bind (A := qI) (r_rc (B := (bT M)) (c := 0) (lm_o hL) (rf_X2_isWord hL hm rfl)) ?_
                rintro pv15 v15 ev15
                change pv15 = v15.toInt at ev15; subst ev15
                refine r_ite (pc_eq rfl (eI (0 : Int32) (by decide))) ?_ ?_
                · exact r_some (qI_i (eI (-1 : Int32) (by decide)))
                · exact r_some (qI_i (eI (7 : Int32) (by decide)))
              · exact r_some (qI_i (eI (6 : Int32) (by decide)))
            · exact r_some (qI_i (eI (5 : Int32) (by decide)))
          · exact r_some (qI_i (eI (4 : Int32) (by decide)))
        · exact r_some (qI_i (eI (3 : Int32) (by decide)))
      · exact r_some (qI_i (eI (2 : Int32) (by decide)))
    · exact r_some (qI_i (eI (1 : Int32) (by decide)))
  · exact r_some (qI_i (eI (0 : Int32) (by decide)))
def p_X2_clause (S : zP) : Option (Int × zP) :=
(p_X2_sortOf S).bind fun v1 =>
if 0 ≤ v1 then (zEx (σ := Unit) (if 1 < v1 then (some (.inr ()))
else (zlt (S 0 19) fun v3 =>
(p_X2_has v3 v1).bind fun v4 =>
if v4 = 0 then (some (.inr ()))
else (some (.inl (4, S))))) fun _ =>
zlt (S 0 12) fun v6 =>
(pald S 3 2724 v6).bind fun v7 =>
if v7 = 24 then (some ((6, S)))
else (((if 1 < v1 then (some (S))
else (zlt (S 0 19) fun v10 =>
zlt (pshl 1 v1) fun x1 =>
zlt (por v10 x1) fun x2 =>
zlt (pup S 0 19 x2) fun S11 =>
some (S11)) : Option zP)).bind fun S9 =>
zlt (pup S9 0 14 v1) fun S12 =>
(p_X2_nextToken S12).bind fun S13 =>
zlt (S13 0 12) fun v14 =>
p32 ((v14 + 1) + (3 * v7)) fun v15 =>
(past S13 3 2724 v15 v1).bind fun S17 =>
(p_X2_body S17 v1 v15).bind fun (v18, S19) =>
if v18 = 0 then (zlt (S19 0 12) fun v21 =>
(pald S19 3 2724 v21).bind fun v22 =>
p32 (v22 + 1) fun x3 =>
(past S19 3 2724 v21 x3).bind fun S23 =>
zlt (S23 0 9) fun v24 =>
if v24 = 59 then ((p_X2_nextToken S23).bind fun S25 =>
some ((0, S25)))
else (some ((1, S23))))
else (some ((v18, S19)))))
else (some ((1, S)))
set_option maxHeartbeats 4000000 in
theorem rf_X2_clause {g : zGd} {M : Nat} {m0 : zMm} (hL : pLM g (zR m0) M) {m : zMm} (hm : pOk (bT M) m0 m) : pRf (qP qI (qM (bT M) m0)) (p_X2_clause (pI (bT M) m)) (f_X2_clause g m (some ((bT M).1 + 0))) := by
  unfold p_X2_clause f_X2_clause
  refine r_bind (A := qI) (r_rc (B := (bT M)) (c := 0) (lm_o hL) (rf_X2_sortOf hL hm)) ?_
  rintro pv1 v1 ev1
  change pv1 = v1.toInt at ev1; subst ev1
  refine r_ite (pc_le (eI (0 : Int32) (by decide)) rfl) ?_ ?_
  · refine r_ex (Q := (qP qI (qM (bT M) m0))) (R := qU) ?_ ?_
    · refine r_ite (pc_lt (eI (1 : Int32) (by decide)) rfl) ?_ ?_
      · exact r_some (qS_r qU_i)
      · refine r_gi (B := (bT M)) (c := 0) (i := 19) (lm_o hL) rfl rfl (fun v3 => ?_)
        refine r_bind (A := qI) (rf_X2_has rfl rfl) ?_
        rintro pv4 v4 ev4
        change pv4 = v4.toInt at ev4; subst ev4
        refine r_ite (pc_eq rfl (eI (0 : Int32) (by decide))) ?_ ?_
        · exact r_some (qS_r qU_i)
        · exact r_some (qS_l (qP_i (qI_i (eI (4 : Int32) (by decide))) (qM_i hm)))
    rintro _ _ _
    refine r_gr (d := 3) hm (lm_o hL) (lm_f2 hL) ?_
    refine r_gi (B := (bT M)) (c := 0) (i := 12) (lm_o hL) rfl rfl (fun v6 => ?_)
    refine r_ald (lm_k3 hL) rfl (fun _ => rfl) (fun v7 => ?_)
    refine r_ite (pc_eq rfl (eI (24 : Int32) (by decide))) ?_ ?_
    · exact r_some (qP_i (qI_i (eI (6 : Int32) (by decide))) (qM_i hm))
    · refine r_bind (A := (qM (bT M) m0)) ?_ ?_
      · refine r_ite (pc_lt (eI (1 : Int32) (by decide)) rfl) ?_ ?_
        · exact r_some (qM_i hm)
        · refine r_gi (B := (bT M)) (c := 0) (i := 19) (lm_o hL) rfl rfl (fun v10 => ?_)
          refine r_x32 (pe_shl (eI (1 : Int32) (by decide)) rfl) ?_
          refine r_x32 (pe_or rfl rfl) ?_
          refine r_pi (B := (bT M)) (c := 0) (i := 19) hm (lm_o hL) hL.1 (wT (by omega)) rfl rfl rfl (fun m11 hm11 => ?_)
          exact r_some (qM_i hm11)
      rintro S9 m9 ⟨em9, hm9⟩
      change S9 = pI (bT M) m9 at em9; subst em9
      refine r_pi (B := (bT M)) (c := 0) (i := 14) hm9 (lm_o hL) hL.1 (wT (by omega)) rfl rfl rfl (fun m12 hm12 => ?_)
      refine r_bind (A := (qM (bT M) m0)) (r_rc (B := (bT M)) (c := 0) (lm_o hL) (rf_X2_nextToken hL hm12)) ?_
      rintro S13 m13 ⟨em13, hm13⟩
      change S13 = pI (bT M) m13 at em13; subst em13
      refine r_gi (B := (bT M)) (c := 0) (i := 12) (lm_o hL) rfl rfl (fun v14 => ?_)
      refine r_lt32 (px_add (px_add (px_v _) (px_n (1 : Int32) (by decide))) (px_mul (px_n (3 : Int32) (by decide)) (px_v _))) (fun v15 => ?_)
      refine r_gr (d := 3) hm13 (lm_o hL) (lm_f2 hL) ?_
      refine r_ast hm13 (lm_k3 hL) hL.1 (wT (by omega)) rfl rfl (fun _ => rfl) (fun m17 hm17 => ?_)
      refine r_bind (A := (qP qI (qM (bT M) m0))) (r_rc (B := (bT M)) (c := 0) (lm_o hL) (rf_X2_body hL hm17 rfl rfl)) ?_
      rintro ⟨pv18, S19⟩ ⟨v18, m19⟩ ⟨ev18, ⟨em19, hm19⟩⟩
      change pv18 = v18.toInt at ev18; subst ev18
      change S19 = pI (bT M) m19 at em19; subst em19
      refine r_ite (pc_eq rfl (eI (0 : Int32) (by decide))) ?_ ?_
      · refine r_gr (d := 3) hm19 (lm_o hL) (lm_f2 hL) ?_
        refine r_gi (B := (bT M)) (c := 0) (i := 12) (lm_o hL) rfl rfl (fun v21 => ?_)
        refine r_ald (lm_k3 hL) rfl (fun _ => rfl) (fun v22 => ?_)
        refine r_p32 (px_add (px_v _) (px_n (1 : Int32) (by decide))) ?_
        refine r_ast hm19 (lm_k3 hL) hL.1 (wT (by omega)) rfl rfl (fun _ => rfl) (fun m23 hm23 => ?_)
        refine r_gi (B := (bT M)) (c := 0) (i := 9) (lm_o hL) rfl rfl (fun v24 => ?_)
        refine r_ite (pc_eq rfl (eI (59 : Int32) (by decide))) ?_ ?_
        · refine r_bind (A := (qM (bT M) m0)) (r_rc (B := (bT M)) (c := 0) (lm_o hL) (rf_X2_nextToken hL hm23)) ?_
          rintro S25 m25 ⟨em25, hm25⟩
          change S25 = pI (bT M) m25 at em25; subst em25
          exact r_some (qP_i (qI_i (eI (0 : Int32) (by decide))) (qM_i hm25))
        · exact r_some (qP_i (qI_i (eI (1 : Int32) (by decide))) (qM_i hm23))
      · exact r_some (qP_i (qI_i rfl) (qM_i hm19))
  · exact r_some (qP_i (qI_i (eI (1 : Int32) (by decide))) (qM_i hm))
def pb_X2_readText_43  : zP → Option (((Int × zP) ⊕ zP) ⊕ zP) := fun S14 =>
zlt (S14 0 9) fun v15 =>
if v15 = 0 then (some (.inl (.inr S14)))
else ((p_X2_clause S14).bind fun (v16, S17) =>
if v16 = 0 then (some (.inr S17))
else (some (.inl (.inl (v16, S17)))))
set_option maxHeartbeats 4000000 in
theorem rb_X2_readText_43 {g : zGd} {M : Nat} {m0 : zMm} (hL : pLM g (zR m0) M)  : ∀ s t, (qM (bT M) m0) s t → pRf (qS (qS (qP qI (qM (bT M) m0)) (qM (bT M) m0)) (qM (bT M) m0)) (pb_X2_readText_43 s) (b_X2_readText_43 g (some ((bT M).1 + 0)) t) := by
  rintro S14 m14 ⟨em14, hm14⟩
  change S14 = pI (bT M) m14 at em14; subst em14
  unfold pb_X2_readText_43 b_X2_readText_43
  try dsimp only
  refine r_gi (B := (bT M)) (c := 0) (i := 9) (lm_o hL) rfl rfl (fun v15 => ?_)
  refine r_ite (pc_eq rfl (eI (0 : Int32) (by decide))) ?_ ?_
  · exact r_some (qS_l (qS_r (qM_i hm14)))
  · refine r_bind (A := (qP qI (qM (bT M) m0))) (r_rc (B := (bT M)) (c := 0) (lm_o hL) (rf_X2_clause hL hm14)) ?_
    rintro ⟨pv16, S17⟩ ⟨v16, m17⟩ ⟨ev16, ⟨em17, hm17⟩⟩
    change pv16 = v16.toInt at ev16; subst ev16
    change S17 = pI (bT M) m17 at em17; subst em17
    refine r_ite (pc_eq rfl (eI (0 : Int32) (by decide))) ?_ ?_
    · exact r_some (qS_r (qM_i hm17))
    · exact r_some (qS_l (qS_l (qP_i (qI_i rfl) (qM_i hm17))))
def p_X2_readText (S : zP) : Option (Int × zP) :=
(pald S 1 1450 1).bind fun v2 =>
p32 (681 * v2) fun x1 =>
zlt (pup S 0 12 x1) fun S3 =>
zlt (S3 0 12) fun v5 =>
(past S3 3 2724 v5 0).bind fun S6 =>
zlt (pup S6 0 13 0) fun S7 =>
zlt (pup S7 0 19 0) fun S8 =>
zlt (pup S8 0 7 0) fun S9 =>
(p_X2_nextToken S9).bind fun S10 =>
zEx (σ := zP) (zLoop pb_X2_readText_43 zFuel S10) fun S12 =>
some ((0, S12))
set_option maxHeartbeats 4000000 in
theorem rf_X2_readText {g : zGd} {M : Nat} {m0 : zMm} (hL : pLM g (zR m0) M) {m : zMm} (hm : pOk (bT M) m0 m) : pRf (qP qI (qM (bT M) m0)) (p_X2_readText (pI (bT M) m)) (f_X2_readText g m (some ((bT M).1 + 0))) := by
  unfold p_X2_readText f_X2_readText
  refine r_gr (d := 1) hm (lm_o hL) (lm_f0 hL) ?_
  refine r_ald (lm_k1 hL) (eI (1 : Int32) (by decide)) (fun _ => rfl) (fun v2 => ?_)
  refine r_p32 (px_mul (px_n (681 : Int32) (by decide)) (px_v _)) ?_
  refine r_pi (B := (bT M)) (c := 0) (i := 12) hm (lm_o hL) hL.1 (wT (by omega)) rfl rfl rfl (fun m3 hm3 => ?_)
  refine r_gr (d := 3) hm3 (lm_o hL) (lm_f2 hL) ?_
  refine r_gi (B := (bT M)) (c := 0) (i := 12) (lm_o hL) rfl rfl (fun v5 => ?_)
  refine r_ast hm3 (lm_k3 hL) hL.1 (wT (by omega)) rfl (eI (0 : Int32) (by decide)) (fun _ => rfl) (fun m6 hm6 => ?_)
  refine r_pi (B := (bT M)) (c := 0) (i := 13) hm6 (lm_o hL) hL.1 (wT (by omega)) rfl rfl (eI (0 : Int32) (by decide)) (fun m7 hm7 => ?_)
  refine r_pi (B := (bT M)) (c := 0) (i := 19) hm7 (lm_o hL) hL.1 (wT (by omega)) rfl rfl (eI (0 : Int32) (by decide)) (fun m8 hm8 => ?_)
  refine r_pi (B := (bT M)) (c := 0) (i := 7) hm8 (lm_o hL) hL.1 (wT (by omega)) rfl rfl (eI (0 : Int32) (by decide)) (fun m9 hm9 => ?_)
  refine r_bind (A := (qM (bT M) m0)) (r_rc (B := (bT M)) (c := 0) (lm_o hL) (rf_X2_nextToken hL hm9)) ?_
  rintro S10 m10 ⟨em10, hm10⟩
  change S10 = pI (bT M) m10 at em10; subst em10
  refine r_ex (Q := (qP qI (qM (bT M) m0))) (R := (qM (bT M) m0)) ?_ ?_
  · exact (r_loop (rb_X2_readText_43 hL) zFuel _ _ (qM_i hm10))
  rintro S12 m12 ⟨em12, hm12⟩
  change S12 = pI (bT M) m12 at em12; subst em12
  exact r_some (qP_i (qI_i (eI (0 : Int32) (by decide))) (qM_i hm12))
def p_X2_text (S : zP) : Option (Int × zP) :=
(pald S 1 1450 1).bind fun v2 =>
if v2 = 4 then (some (((-1), S)))
else ((p_X2_readText S).bind fun (v3, S4) =>
zlt (pup S4 0 5 v3) fun S5 =>
zlt (S5 0 5) fun v6 =>
((if v6 = 0 then (some ((-1)))
else (zlt (S5 0 8) fun v9 =>
some (v9)) : Option Int)).bind fun v8 =>
zlt (pup S5 0 6 v8) fun S10 =>
zlt (pup S10 0 4 0) fun S11 =>
zlt (S11 0 5) fun v12 =>
if v12 = 0 then ((pald S11 1 1450 1).bind fun v14 =>
p32 (v14 + 1) fun x1 =>
(past S11 1 1450 1 x1).bind fun S15 =>
(pald S15 1 1450 1).bind fun v17 =>
p32 (v17 - 1) fun x2 =>
some ((x2, S15)))
else (some (((-1), S11))))
set_option maxHeartbeats 4000000 in
theorem rf_X2_text {g : zGd} {M : Nat} {m0 : zMm} (hL : pLM g (zR m0) M) {m : zMm} (hm : pOk (bT M) m0 m) : pRf (qP qI (qM (bT M) m0)) (p_X2_text (pI (bT M) m)) (f_X2_text g m (some ((bT M).1 + 0))) := by
  unfold p_X2_text f_X2_text
  refine r_gr (d := 1) hm (lm_o hL) (lm_f0 hL) ?_
  refine r_ald (lm_k1 hL) (eI (1 : Int32) (by decide)) (fun _ => rfl) (fun v2 => ?_)
  refine r_ite (pc_eq rfl (eI (4 : Int32) (by decide))) ?_ ?_
  · exact r_some (qP_i (qI_i (eI (-1 : Int32) (by decide))) (qM_i hm))
  · refine r_bind (A := (qP qI (qM (bT M) m0))) (r_rc (B := (bT M)) (c := 0) (lm_o hL) (rf_X2_readText hL hm)) ?_
    rintro ⟨pv3, S4⟩ ⟨v3, m4⟩ ⟨ev3, ⟨em4, hm4⟩⟩
    change pv3 = v3.toInt at ev3; subst ev3
    change S4 = pI (bT M) m4 at em4; subst em4
    refine r_pi (B := (bT M)) (c := 0) (i := 5) hm4 (lm_o hL) hL.1 (wT (by omega)) rfl rfl rfl (fun m5 hm5 => ?_)
    refine r_gi (B := (bT M)) (c := 0) (i := 5) (lm_o hL) rfl rfl (fun v6 => ?_)
    refine r_bind (A := qI) ?_ ?_
    · refine r_ite (pc_eq rfl (eI (0 : Int32) (by decide))) ?_ ?_
      · exact r_some (qI_i (eI (-1 : Int32) (by decide)))
      · refine r_gi (B := (bT M)) (c := 0) (i := 8) (lm_o hL) rfl rfl (fun v9 => ?_)
        exact r_some (qI_i rfl)
    rintro pv8 v8 ev8
    change pv8 = v8.toInt at ev8; subst ev8
    refine r_pi (B := (bT M)) (c := 0) (i := 6) hm5 (lm_o hL) hL.1 (wT (by omega)) rfl rfl rfl (fun m10 hm10 => ?_)
    refine r_pi (B := (bT M)) (c := 0) (i := 4) hm10 (lm_o hL) hL.1 (wT (by omega)) rfl rfl (eI (0 : Int32) (by decide)) (fun m11 hm11 => ?_)
    refine r_gi (B := (bT M)) (c := 0) (i := 5) (lm_o hL) rfl rfl (fun v12 => ?_)
    refine r_ite (pc_eq rfl (eI (0 : Int32) (by decide))) ?_ ?_
    · refine r_gr (d := 1) hm11 (lm_o hL) (lm_f0 hL) ?_
      refine r_ald (lm_k1 hL) (eI (1 : Int32) (by decide)) (fun _ => rfl) (fun v14 => ?_)
      refine r_p32 (px_add (px_v _) (px_n (1 : Int32) (by decide))) ?_
      refine r_ast hm11 (lm_k1 hL) hL.1 (wT (by omega)) (eI (1 : Int32) (by decide)) rfl (fun _ => rfl) (fun m15 hm15 => ?_)
      refine r_gr (d := 1) hm15 (lm_o hL) (lm_f0 hL) ?_
      refine r_ald (lm_k1 hL) (eI (1 : Int32) (by decide)) (fun _ => rfl) (fun v17 => ?_)
      refine r_p32 (px_sub (px_v _) (px_n (1 : Int32) (by decide))) ?_
      exact r_some (qP_i (qI_i rfl) (qM_i hm15))
    · exact r_some (qP_i (qI_i (eI (-1 : Int32) (by decide))) (qM_i hm11))
def p_X2_fault (S : zP) (a1 : Int) : Option Int :=
if a1 = 0 then (zlt (S 0 5) fun v2 =>
some (v2))
else (if a1 = 1 then (zlt (S 0 6) fun v1 =>
some (v1))
else (some ((-1))))
set_option maxHeartbeats 4000000 in
theorem rf_X2_fault {g : zGd} {M : Nat} {m0 : zMm} (hL : pLM g (zR m0) M) {m : zMm} (hm : pOk (bM M) m0 m) {pa1 : Int} {a1 : Int32} (ea1 : pa1 = a1.toInt) : pRf qI (p_X2_fault (pI (bM M) m) pa1) (f_X2_fault g m (some ((bM M).1 + 0)) a1) := by
  subst ea1
  unfold p_X2_fault f_X2_fault
  refine r_ite (pc_eq rfl (eI (0 : Int32) (by decide))) ?_ ?_
  · refine r_gi (B := (bM M)) (c := 0) (i := 5) (lm_o hL) rfl rfl (fun v2 => ?_)
    exact r_some (qI_i rfl)
  · refine r_ite (pc_eq rfl (eI (1 : Int32) (by decide))) ?_ ?_
    · refine r_gi (B := (bM M)) (c := 0) (i := 6) (lm_o hL) rfl rfl (fun v1 => ?_)
      exact r_some (qI_i rfl)
    · exact r_some (qI_i (eI (-1 : Int32) (by decide)))
def p_X2_by (S : zP) (a1 : Int) : Option (Int × zP) :=
(pald S 1 1450 1).bind fun v2 =>
p32 (v2 - 1) fun x1 =>
(p_X2_isIn a1 (-1) x1).bind fun v3 =>
if v3 = 0 then (some ((0, S)))
else ((past S 1 1450 2 a1).bind fun S5 =>
some ((1, S5)))
set_option maxHeartbeats 4000000 in
theorem rf_X2_by {g : zGd} {M : Nat} {m0 : zMm} (hL : pLM g (zR m0) M) {m : zMm} (hm : pOk (bM M) m0 m) {pa1 : Int} {a1 : Int32} (ea1 : pa1 = a1.toInt) : pRf (qP qI (qM (bM M) m0)) (p_X2_by (pI (bM M) m) pa1) (f_X2_by g m (some ((bM M).1 + 0)) a1) := by
  subst ea1
  unfold p_X2_by f_X2_by
  refine r_gr (d := 1) hm (lm_o hL) (lm_f0 hL) ?_
  refine r_ald (lm_k1 hL) (eI (1 : Int32) (by decide)) (fun _ => rfl) (fun v2 => ?_)
  refine r_p32 (px_sub (px_v _) (px_n (1 : Int32) (by decide))) ?_
  refine r_bind (A := qI) (rf_X2_isIn rfl (eI (-1 : Int32) (by decide)) rfl) ?_
  rintro pv3 v3 ev3
  change pv3 = v3.toInt at ev3; subst ev3
  refine r_ite (pc_eq rfl (eI (0 : Int32) (by decide))) ?_ ?_
  · exact r_some (qP_i (qI_i (eI (0 : Int32) (by decide))) (qM_i hm))
  · refine r_gr (d := 1) hm (lm_o hL) (lm_f0 hL) ?_
    refine r_ast hm (lm_k1 hL) hL.1 (wM (by omega)) (eI (2 : Int32) (by decide)) rfl (fun _ => rfl) (fun m5 hm5 => ?_)
    exact r_some (qP_i (qI_i (eI (1 : Int32) (by decide))) (qM_i hm5))
def pb_X2_undo_37 (v8 : Int) : (Int × zP) → Option (zP ⊕ (Int × zP)) := fun (v12, S13) =>
if 16 ≤ v12 then (some (.inl S13))
else (p32 ((v8 + 1) + v12) fun x1 =>
(pald S13 1 1450 x1).bind fun v16 =>
p32 (7 + v12) fun x2 =>
(past S13 1 1450 x2 v16).bind fun S17 =>
p32 (v12 + 1) fun v18 =>
some (.inr (v18, S17)))
set_option maxHeartbeats 4000000 in
theorem rb_X2_undo_37 {g : zGd} {M : Nat} {m0 : zMm} (hL : pLM g (zR m0) M) {pv8 : Int} {v8 : Int32} (ev8 : pv8 = v8.toInt) : ∀ s t, (qP qI (qM (bM M) m0)) s t → pRf (qS (qM (bM M) m0) (qP qI (qM (bM M) m0))) (pb_X2_undo_37 pv8 s) (b_X2_undo_37 g (some ((bM M).1 + 0)) v8 t) := by
  subst ev8
  rintro ⟨pv12, S13⟩ ⟨v12, m13⟩ ⟨ev12, ⟨em13, hm13⟩⟩
  change pv12 = v12.toInt at ev12; subst ev12
  change S13 = pI (bM M) m13 at em13; subst em13
  unfold pb_X2_undo_37 b_X2_undo_37
  try dsimp only
  refine r_ite (pc_le (eI (16 : Int32) (by decide)) rfl) ?_ ?_
  · exact r_some (qS_l (qM_i hm13))
  · refine r_gr (d := 1) hm13 (lm_o hL) (lm_f0 hL) ?_
    refine r_gr (d := 1) hm13 (lm_o hL) (lm_f0 hL) ?_
    refine r_p32 (px_add (px_add (px_v _) (px_n (1 : Int32) (by decide))) (px_v _)) ?_
    refine r_ald (lm_k1 hL) rfl (fun _ => rfl) (fun v16 => ?_)
    refine r_p32 (px_add (px_n (7 : Int32) (by decide)) (px_v _)) ?_
    refine r_ast hm13 (lm_k1 hL) hL.1 (wM (by omega)) rfl rfl (fun _ => rfl) (fun m17 hm17 => ?_)
    refine r_lt32 (px_add (px_v _) (px_n (1 : Int32) (by decide))) (fun v18 => ?_)
    exact r_some (qS_r (qP_i (qI_i rfl) (qM_i hm17)))
def pb_X2_undo_75  : (Int × zP) → Option (zP ⊕ (Int × zP)) := fun (v24, S25) =>
(pald S25 1 1450 0).bind fun v27 =>
if v27 ≤ v24 then (some (.inl S25))
else ((p_X2_begin S25 v24).bind fun S28 =>
p32 (v24 + 1) fun v29 =>
some (.inr (v29, S28)))
set_option maxHeartbeats 4000000 in
theorem rb_X2_undo_75 {g : zGd} {M : Nat} {m0 : zMm} (hL : pLM g (zR m0) M)  : ∀ s t, (qP qI (qM (bM M) m0)) s t → pRf (qS (qM (bM M) m0) (qP qI (qM (bM M) m0))) (pb_X2_undo_75 s) (b_X2_undo_75 g (some ((bM M).1 + 0)) t) := by
  rintro ⟨pv24, S25⟩ ⟨v24, m25⟩ ⟨ev24, ⟨em25, hm25⟩⟩
  change pv24 = v24.toInt at ev24; subst ev24
  change S25 = pI (bM M) m25 at em25; subst em25
  unfold pb_X2_undo_75 b_X2_undo_75
  try dsimp only
  refine r_gr (d := 1) hm25 (lm_o hL) (lm_f0 hL) ?_
  refine r_ald (lm_k1 hL) (eI (0 : Int32) (by decide)) (fun _ => rfl) (fun v27 => ?_)
  refine r_ite (pc_le rfl rfl) ?_ ?_
  · exact r_some (qS_l (qM_i hm25))
  · refine r_bind (A := (qM (bM M) m0)) (r_rc (B := (bM M)) (c := 0) (lm_o hL) (rf_X2_begin hL hm25 rfl)) ?_
    rintro S28 m28 ⟨em28, hm28⟩
    change S28 = pI (bM M) m28 at em28; subst em28
    refine r_lt32 (px_add (px_v _) (px_n (1 : Int32) (by decide))) (fun v29 => ?_)
    exact r_some (qS_r (qP_i (qI_i rfl) (qM_i hm28)))
def pb_X2_undo_98 (v8 : Int) : (Int × zP) → Option (zP ⊕ (Int × zP)) := fun (v33, S34) =>
if 25 ≤ v33 then (some (.inl S34))
else (p32 (((v8 + 1) + 16) + v33) fun x1 =>
(pald S34 1 1450 x1).bind fun v37 =>
p32 (1425 + v33) fun x2 =>
(past S34 1 1450 x2 v37).bind fun S38 =>
p32 (v33 + 1) fun v39 =>
some (.inr (v39, S38)))
set_option maxHeartbeats 4000000 in
theorem rb_X2_undo_98 {g : zGd} {M : Nat} {m0 : zMm} (hL : pLM g (zR m0) M) {pv8 : Int} {v8 : Int32} (ev8 : pv8 = v8.toInt) : ∀ s t, (qP qI (qM (bM M) m0)) s t → pRf (qS (qM (bM M) m0) (qP qI (qM (bM M) m0))) (pb_X2_undo_98 pv8 s) (b_X2_undo_98 g (some ((bM M).1 + 0)) v8 t) := by
  subst ev8
  rintro ⟨pv33, S34⟩ ⟨v33, m34⟩ ⟨ev33, ⟨em34, hm34⟩⟩
  change pv33 = v33.toInt at ev33; subst ev33
  change S34 = pI (bM M) m34 at em34; subst em34
  unfold pb_X2_undo_98 b_X2_undo_98
  try dsimp only
  refine r_ite (pc_le (eI (25 : Int32) (by decide)) rfl) ?_ ?_
  · exact r_some (qS_l (qM_i hm34))
  · refine r_gr (d := 1) hm34 (lm_o hL) (lm_f0 hL) ?_
    refine r_gr (d := 1) hm34 (lm_o hL) (lm_f0 hL) ?_
    refine r_p32 (px_add (px_add (px_add (px_v _) (px_n (1 : Int32) (by decide))) (px_n (16 : Int32) (by decide))) (px_v _)) ?_
    refine r_ald (lm_k1 hL) rfl (fun _ => rfl) (fun v37 => ?_)
    refine r_p32 (px_add (px_n (1425 : Int32) (by decide)) (px_v _)) ?_
    refine r_ast hm34 (lm_k1 hL) hL.1 (wM (by omega)) rfl rfl (fun _ => rfl) (fun m38 hm38 => ?_)
    refine r_lt32 (px_add (px_v _) (px_n (1 : Int32) (by decide))) (fun v39 => ?_)
    exact r_some (qS_r (qP_i (qI_i rfl) (qM_i hm38)))
def p_X2_undo (S : zP) : Option (Int × zP) :=
(pald S 1 1450 3).bind fun v2 =>
if v2 = 0 then (some (((-1), S)))
else ((pald S 1 1450 3).bind fun v4 =>
p32 (v4 - 1) fun x1 =>
(past S 1 1450 3 x1).bind fun S5 =>
(pald S5 1 1450 3).bind fun v7 =>
p32 (165 + (42 * v7)) fun v8 =>
(zLoop (pb_X2_undo_37 v8) zFuel (0, S5)).bind fun S10 =>
(pald S10 1 1450 v8).bind fun v20 =>
(zLoop pb_X2_undo_75 zFuel (v20, S10)).bind fun S22 =>
(zLoop (pb_X2_undo_98 v8) zFuel (0, S22)).bind fun S31 =>
(pald S31 1 1450 3).bind fun v41 =>
some ((v41, S31)))
set_option maxHeartbeats 4000000 in
theorem rf_X2_undo {g : zGd} {M : Nat} {m0 : zMm} (hL : pLM g (zR m0) M) {m : zMm} (hm : pOk (bM M) m0 m) : pRf (qP qI (qM (bM M) m0)) (p_X2_undo (pI (bM M) m)) (f_X2_undo g m (some ((bM M).1 + 0))) := by
  unfold p_X2_undo f_X2_undo
  refine r_gr (d := 1) hm (lm_o hL) (lm_f0 hL) ?_
  refine r_ald (lm_k1 hL) (eI (3 : Int32) (by decide)) (fun _ => rfl) (fun v2 => ?_)
  refine r_ite (pc_eq rfl (eI (0 : Int32) (by decide))) ?_ ?_
  · exact r_some (qP_i (qI_i (eI (-1 : Int32) (by decide))) (qM_i hm))
  · refine r_gr (d := 1) hm (lm_o hL) (lm_f0 hL) ?_
    refine r_ald (lm_k1 hL) (eI (3 : Int32) (by decide)) (fun _ => rfl) (fun v4 => ?_)
    refine r_p32 (px_sub (px_v _) (px_n (1 : Int32) (by decide))) ?_
    refine r_ast hm (lm_k1 hL) hL.1 (wM (by omega)) (eI (3 : Int32) (by decide)) rfl (fun _ => rfl) (fun m5 hm5 => ?_)
    refine r_gr (d := 1) hm5 (lm_o hL) (lm_f0 hL) ?_
    refine r_ald (lm_k1 hL) (eI (3 : Int32) (by decide)) (fun _ => rfl) (fun v7 => ?_)
    refine r_lt32 (px_add (px_n (165 : Int32) (by decide)) (px_mul (px_n (42 : Int32) (by decide)) (px_v _))) (fun v8 => ?_)
    refine r_bind (A := (qM (bM M) m0)) (r_loop (rb_X2_undo_37 hL rfl) zFuel _ _ (qP_i (qI_i (eI (0 : Int32) (by decide))) (qM_i hm5))) ?_
    rintro S10 m10 ⟨em10, hm10⟩
    change S10 = pI (bM M) m10 at em10; subst em10
    refine r_gr (d := 1) hm10 (lm_o hL) (lm_f0 hL) ?_
    refine r_ald (lm_k1 hL) rfl (fun _ => rfl) (fun v20 => ?_)
    refine r_bind (A := (qM (bM M) m0)) (r_loop (rb_X2_undo_75 hL) zFuel _ _ (qP_i (qI_i rfl) (qM_i hm10))) ?_
    rintro S22 m22 ⟨em22, hm22⟩
    change S22 = pI (bM M) m22 at em22; subst em22
    refine r_bind (A := (qM (bM M) m0)) (r_loop (rb_X2_undo_98 hL rfl) zFuel _ _ (qP_i (qI_i (eI (0 : Int32) (by decide))) (qM_i hm22))) ?_
    rintro S31 m31 ⟨em31, hm31⟩
    change S31 = pI (bM M) m31 at em31; subst em31
    refine r_gr (d := 1) hm31 (lm_o hL) (lm_f0 hL) ?_
    refine r_ald (lm_k1 hL) (eI (3 : Int32) (by decide)) (fun _ => rfl) (fun v41 => ?_)
    exact r_some (qP_i (qI_i rfl) (qM_i hm31))
def p_X2_isStrapped (S : zP) (a1 : Int) : Option Int :=
(pald S 1 1450 10).bind fun v2 =>
(p_X2_has v2 a1).bind fun v3 =>
(pbo v3).bind fun z =>
some (z)
set_option maxHeartbeats 4000000 in
theorem rf_X2_isStrapped {g : zGd} {M : Nat} {m0 : zMm} (hL : pLM g (zR m0) M) {m : zMm} (hm : pOk (bM M) m0 m) {pa1 : Int} {a1 : Int32} (ea1 : pa1 = a1.toInt) : pRf qI (p_X2_isStrapped (pI (bM M) m) pa1) (f_X2_isStrapped g m (some ((bM M).1 + 0)) a1) := by
  subst ea1
  unfold p_X2_isStrapped f_X2_isStrapped
  refine r_gr (d := 1) hm (lm_o hL) (lm_f0 hL) ?_
  refine r_ald (lm_k1 hL) (eI (10 : Int32) (by decide)) (fun _ => rfl) (fun v2 => ?_)
  refine r_bind (A := qI) (rf_X2_has rfl rfl) ?_
  rintro pv3 v3 ev3
  change pv3 = v3.toInt at ev3; subst ev3
  refine r_bo rfl (fun z => ?_)
  exact r_some (qI_i rfl)
def pb_X2_keep_13  : (Int × zP) → Option (zP ⊕ (Int × zP)) := fun (v8, S9) =>
if 1218 ≤ v8 then (some (.inl S9))
else (p32 (207 + v8) fun x1 =>
(pald S9 1 1450 x1).bind fun v12 =>
p32 (165 + v8) fun x2 =>
(past S9 1 1450 x2 v12).bind fun S13 =>
p32 (v8 + 1) fun v14 =>
some (.inr (v14, S13)))
set_option maxHeartbeats 4000000 in
theorem rb_X2_keep_13 {g : zGd} {M : Nat} {m0 : zMm} (hL : pLM g (zR m0) M)  : ∀ s t, (qP qI (qM (bM M) m0)) s t → pRf (qS (qM (bM M) m0) (qP qI (qM (bM M) m0))) (pb_X2_keep_13 s) (b_X2_keep_13 g (some ((bM M).1 + 0)) t) := by
  rintro ⟨pv8, S9⟩ ⟨v8, m9⟩ ⟨ev8, ⟨em9, hm9⟩⟩
  change pv8 = v8.toInt at ev8; subst ev8
  change S9 = pI (bM M) m9 at em9; subst em9
  unfold pb_X2_keep_13 b_X2_keep_13
  try dsimp only
  refine r_ite (pc_le (eI (1218 : Int32) (by decide)) rfl) ?_ ?_
  · exact r_some (qS_l (qM_i hm9))
  · refine r_gr (d := 1) hm9 (lm_o hL) (lm_f0 hL) ?_
    refine r_gr (d := 1) hm9 (lm_o hL) (lm_f0 hL) ?_
    refine r_p32 (px_add (px_n (207 : Int32) (by decide)) (px_v _)) ?_
    refine r_ald (lm_k1 hL) rfl (fun _ => rfl) (fun v12 => ?_)
    refine r_p32 (px_add (px_n (165 : Int32) (by decide)) (px_v _)) ?_
    refine r_ast hm9 (lm_k1 hL) hL.1 (wM (by omega)) rfl rfl (fun _ => rfl) (fun m13 hm13 => ?_)
    refine r_lt32 (px_add (px_v _) (px_n (1 : Int32) (by decide))) (fun v14 => ?_)
    exact r_some (qS_r (qP_i (qI_i rfl) (qM_i hm13)))
def pb_X2_keep_84 (v20 : Int) : (Int × zP) → Option (zP ⊕ (Int × zP)) := fun (v28, S29) =>
if 16 ≤ v28 then (some (.inl S29))
else (p32 (7 + v28) fun x1 =>
(pald S29 1 1450 x1).bind fun v32 =>
p32 ((v20 + 1) + v28) fun x2 =>
(past S29 1 1450 x2 v32).bind fun S33 =>
p32 (v28 + 1) fun v34 =>
some (.inr (v34, S33)))
set_option maxHeartbeats 4000000 in
theorem rb_X2_keep_84 {g : zGd} {M : Nat} {m0 : zMm} (hL : pLM g (zR m0) M) {pv20 : Int} {v20 : Int32} (ev20 : pv20 = v20.toInt) : ∀ s t, (qP qI (qM (bM M) m0)) s t → pRf (qS (qM (bM M) m0) (qP qI (qM (bM M) m0))) (pb_X2_keep_84 pv20 s) (b_X2_keep_84 g (some ((bM M).1 + 0)) v20 t) := by
  subst ev20
  rintro ⟨pv28, S29⟩ ⟨v28, m29⟩ ⟨ev28, ⟨em29, hm29⟩⟩
  change pv28 = v28.toInt at ev28; subst ev28
  change S29 = pI (bM M) m29 at em29; subst em29
  unfold pb_X2_keep_84 b_X2_keep_84
  try dsimp only
  refine r_ite (pc_le (eI (16 : Int32) (by decide)) rfl) ?_ ?_
  · exact r_some (qS_l (qM_i hm29))
  · refine r_gr (d := 1) hm29 (lm_o hL) (lm_f0 hL) ?_
    refine r_gr (d := 1) hm29 (lm_o hL) (lm_f0 hL) ?_
    refine r_p32 (px_add (px_n (7 : Int32) (by decide)) (px_v _)) ?_
    refine r_ald (lm_k1 hL) rfl (fun _ => rfl) (fun v32 => ?_)
    refine r_p32 (px_add (px_add (px_v _) (px_n (1 : Int32) (by decide))) (px_v _)) ?_
    refine r_ast hm29 (lm_k1 hL) hL.1 (wM (by omega)) rfl rfl (fun _ => rfl) (fun m33 hm33 => ?_)
    refine r_lt32 (px_add (px_v _) (px_n (1 : Int32) (by decide))) (fun v34 => ?_)
    exact r_some (qS_r (qP_i (qI_i rfl) (qM_i hm33)))
def pb_X2_keep_117 (v20 : Int) : (Int × zP) → Option (zP ⊕ (Int × zP)) := fun (v38, S39) =>
if 25 ≤ v38 then (some (.inl S39))
else (p32 (1425 + v38) fun x1 =>
(pald S39 1 1450 x1).bind fun v42 =>
p32 (((v20 + 1) + 16) + v38) fun x2 =>
(past S39 1 1450 x2 v42).bind fun S43 =>
p32 (v38 + 1) fun v44 =>
some (.inr (v44, S43)))
set_option maxHeartbeats 4000000 in
theorem rb_X2_keep_117 {g : zGd} {M : Nat} {m0 : zMm} (hL : pLM g (zR m0) M) {pv20 : Int} {v20 : Int32} (ev20 : pv20 = v20.toInt) : ∀ s t, (qP qI (qM (bM M) m0)) s t → pRf (qS (qM (bM M) m0) (qP qI (qM (bM M) m0))) (pb_X2_keep_117 pv20 s) (b_X2_keep_117 g (some ((bM M).1 + 0)) v20 t) := by
  subst ev20
  rintro ⟨pv38, S39⟩ ⟨v38, m39⟩ ⟨ev38, ⟨em39, hm39⟩⟩
  change pv38 = v38.toInt at ev38; subst ev38
  change S39 = pI (bM M) m39 at em39; subst em39
  unfold pb_X2_keep_117 b_X2_keep_117
  try dsimp only
  refine r_ite (pc_le (eI (25 : Int32) (by decide)) rfl) ?_ ?_
  · exact r_some (qS_l (qM_i hm39))
  · refine r_gr (d := 1) hm39 (lm_o hL) (lm_f0 hL) ?_
    refine r_gr (d := 1) hm39 (lm_o hL) (lm_f0 hL) ?_
    refine r_p32 (px_add (px_n (1425 : Int32) (by decide)) (px_v _)) ?_
    refine r_ald (lm_k1 hL) rfl (fun _ => rfl) (fun v42 => ?_)
    refine r_p32 (px_add (px_add (px_add (px_v _) (px_n (1 : Int32) (by decide))) (px_n (16 : Int32) (by decide))) (px_v _)) ?_
    refine r_ast hm39 (lm_k1 hL) hL.1 (wM (by omega)) rfl rfl (fun _ => rfl) (fun m43 hm43 => ?_)
    refine r_lt32 (px_add (px_v _) (px_n (1 : Int32) (by decide))) (fun v44 => ?_)
    exact r_some (qS_r (qP_i (qI_i rfl) (qM_i hm43)))
def p_X2_keep (S : zP) : Option zP :=
(pald S 1 1450 3).bind fun v2 =>
((if v2 = 30 then ((zLoop pb_X2_keep_13 zFuel (0, S)).bind fun S6 =>
(pald S6 1 1450 3).bind fun v16 =>
p32 (v16 - 1) fun x1 =>
(past S6 1 1450 3 x1).bind fun S17 =>
some (S17))
else (some (S)) : Option zP)).bind fun S4 =>
(pald S4 1 1450 3).bind fun v19 =>
p32 (165 + (42 * v19)) fun v20 =>
(pald S4 1 1450 0).bind fun v23 =>
(past S4 1 1450 v20 v23).bind fun S24 =>
(zLoop (pb_X2_keep_84 v20) zFuel (0, S24)).bind fun S26 =>
(zLoop (pb_X2_keep_117 v20) zFuel (0, S26)).bind fun S36 =>
(pald S36 1 1450 3).bind fun v46 =>
p32 (v46 + 1) fun x2 =>
(past S36 1 1450 3 x2).bind fun S47 =>
some (S47)
set_option maxHeartbeats 4000000 in
theorem rf_X2_keep {g : zGd} {M : Nat} {m0 : zMm} (hL : pLM g (zR m0) M) {m : zMm} (hm : pOk (bM M) m0 m) : pRf (qM (bM M) m0) (p_X2_keep (pI (bM M) m)) (f_X2_keep g m (some ((bM M).1 + 0))) := by
  unfold p_X2_keep f_X2_keep
  refine r_gr (d := 1) hm (lm_o hL) (lm_f0 hL) ?_
  refine r_ald (lm_k1 hL) (eI (3 : Int32) (by decide)) (fun _ => rfl) (fun v2 => ?_)
  refine r_bind (A := (qM (bM M) m0)) ?_ ?_
  · refine r_ite (pc_eq rfl (eI (30 : Int32) (by decide))) ?_ ?_
    · refine r_bind (A := (qM (bM M) m0)) (r_loop (rb_X2_keep_13 hL) zFuel _ _ (qP_i (qI_i (eI (0 : Int32) (by decide))) (qM_i hm))) ?_
      rintro S6 m6 ⟨em6, hm6⟩
      change S6 = pI (bM M) m6 at em6; subst em6
      refine r_gr (d := 1) hm6 (lm_o hL) (lm_f0 hL) ?_
      refine r_ald (lm_k1 hL) (eI (3 : Int32) (by decide)) (fun _ => rfl) (fun v16 => ?_)
      refine r_p32 (px_sub (px_v _) (px_n (1 : Int32) (by decide))) ?_
      refine r_ast hm6 (lm_k1 hL) hL.1 (wM (by omega)) (eI (3 : Int32) (by decide)) rfl (fun _ => rfl) (fun m17 hm17 => ?_)
      exact r_some (qM_i hm17)
    · exact r_some (qM_i hm)
  rintro S4 m4 ⟨em4, hm4⟩
  change S4 = pI (bM M) m4 at em4; subst em4
  refine r_gr (d := 1) hm4 (lm_o hL) (lm_f0 hL) ?_
  refine r_ald (lm_k1 hL) (eI (3 : Int32) (by decide)) (fun _ => rfl) (fun v19 => ?_)
  refine r_lt32 (px_add (px_n (165 : Int32) (by decide)) (px_mul (px_n (42 : Int32) (by decide)) (px_v _))) (fun v20 => ?_)
  refine r_gr (d := 1) hm4 (lm_o hL) (lm_f0 hL) ?_
  refine r_gr (d := 1) hm4 (lm_o hL) (lm_f0 hL) ?_
  refine r_ald (lm_k1 hL) (eI (0 : Int32) (by decide)) (fun _ => rfl) (fun v23 => ?_)
  refine r_ast hm4 (lm_k1 hL) hL.1 (wM (by omega)) rfl rfl (fun _ => rfl) (fun m24 hm24 => ?_)
  refine r_bind (A := (qM (bM M) m0)) (r_loop (rb_X2_keep_84 hL rfl) zFuel _ _ (qP_i (qI_i (eI (0 : Int32) (by decide))) (qM_i hm24))) ?_
  rintro S26 m26 ⟨em26, hm26⟩
  change S26 = pI (bM M) m26 at em26; subst em26
  refine r_bind (A := (qM (bM M) m0)) (r_loop (rb_X2_keep_117 hL rfl) zFuel _ _ (qP_i (qI_i (eI (0 : Int32) (by decide))) (qM_i hm26))) ?_
  rintro S36 m36 ⟨em36, hm36⟩
  change S36 = pI (bM M) m36 at em36; subst em36
  refine r_gr (d := 1) hm36 (lm_o hL) (lm_f0 hL) ?_
  refine r_ald (lm_k1 hL) (eI (3 : Int32) (by decide)) (fun _ => rfl) (fun v46 => ?_)
  refine r_p32 (px_add (px_v _) (px_n (1 : Int32) (by decide))) ?_
  refine r_ast hm36 (lm_k1 hL) hL.1 (wM (by omega)) (eI (3 : Int32) (by decide)) rfl (fun _ => rfl) (fun m47 hm47 => ?_)
  exact r_some (qM_i hm47)
def p_X2_held (a0 : Int) (a2 : Int) (a3 : Int) : Option Int :=
if a2 ≤ a0 then (if a0 ≤ a3 then (p32 a0 fun x1 =>
some (x1))
else (some (a3)))
else (some (a2))
set_option maxHeartbeats 4000000 in
theorem rf_X2_held {pa0 : Int} {a0 : Int64} (ea0 : pa0 = a0.toInt) {pa2 : Int} {a2 : Int32} (ea2 : pa2 = a2.toInt) {pa3 : Int} {a3 : Int32} (ea3 : pa3 = a3.toInt) : pRf qI (p_X2_held pa0 pa2 pa3) (f_X2_held a0 a2 a3) := by
  subst ea0
  subst ea2
  subst ea3
  unfold p_X2_held f_X2_held
  refine r_ite (pcj_le (pe_i64 _) rfl) ?_ ?_
  · refine r_ite (pcj_le rfl (pe_i64 _)) ?_ ?_
    · refine r_p32 (px_j (pj_v _)) ?_
      exact r_some (qI_i rfl)
    · exact r_some (qI_i rfl)
  · exact r_some (qI_i rfl)
def p_X2_more (S : zP) (a1 : Int) : Option zP :=
p32 (11 + a1) fun x1 =>
(pald S 1 1450 x1).bind fun v3 =>
p32 (v3 + 1) fun x2 =>
(p_X2_held x2 0 99).bind fun v4 =>
(past S 1 1450 x1 v4).bind fun S5 =>
some (S5)
set_option maxHeartbeats 4000000 in
theorem rf_X2_more {g : zGd} {M : Nat} {m0 : zMm} (hL : pLM g (zR m0) M) {m : zMm} (hm : pOk (bM M) m0 m) {pa1 : Int} {a1 : Int32} (ea1 : pa1 = a1.toInt) : pRf (qM (bM M) m0) (p_X2_more (pI (bM M) m) pa1) (f_X2_more g m (some ((bM M).1 + 0)) a1) := by
  subst ea1
  unfold p_X2_more f_X2_more
  refine r_gr (d := 1) hm (lm_o hL) (lm_f0 hL) ?_
  refine r_gr (d := 1) hm (lm_o hL) (lm_f0 hL) ?_
  refine r_p32 (px_add (px_n (11 : Int32) (by decide)) (px_v _)) ?_
  refine r_ald (lm_k1 hL) rfl (fun _ => rfl) (fun v3 => ?_)
  refine r_p32 (px_add (px_v _) (px_n (1 : Int32) (by decide))) ?_
  refine r_bind (A := qI) (rf_X2_held (pe_i64 _) (eI (0 : Int32) (by decide)) (eI (99 : Int32) (by decide))) ?_
  rintro pv4 v4 ev4
  change pv4 = v4.toInt at ev4; subst ev4
  refine r_ast hm (lm_k1 hL) hL.1 (wM (by omega)) rfl rfl (fun _ => rfl) (fun m5 hm5 => ?_)
  exact r_some (qM_i hm5)
def p_X2_reach (S : zP) (a1 : Int) : Option (Int × zP) :=
(p_X2_isKin S a1).bind fun v1 =>
if v1 = 0 then (some (((-1), S)))
else ((p_X2_isStrapped S a1).bind fun v2 =>
if v2 = 0 then ((p_X2_keep S).bind fun S3 =>
(p_X2_more S3 a1).bind fun S4 =>
p32 (11 + a1) fun x1 =>
(pald S4 1 1450 x1).bind fun v6 =>
some ((v6, S4)))
else (some (((-1), S))))
set_option maxHeartbeats 4000000 in
theorem rf_X2_reach {g : zGd} {M : Nat} {m0 : zMm} (hL : pLM g (zR m0) M) {m : zMm} (hm : pOk (bM M) m0 m) {pa1 : Int} {a1 : Int32} (ea1 : pa1 = a1.toInt) : pRf (qP qI (qM (bM M) m0)) (p_X2_reach (pI (bM M) m) pa1) (f_X2_reach g m (some ((bM M).1 + 0)) a1) := by
  subst ea1
  unfold p_X2_reach f_X2_reach
  refine r_bind (A := qI) (r_rc (B := (bM M)) (c := 0) (lm_o hL) (rf_X2_isKin hL hm rfl)) ?_
  rintro pv1 v1 ev1
  change pv1 = v1.toInt at ev1; subst ev1
  refine r_ite (pc_eq rfl (eI (0 : Int32) (by decide))) ?_ ?_
  · exact r_some (qP_i (qI_i (eI (-1 : Int32) (by decide))) (qM_i hm))
  · refine r_bind (A := qI) (r_rc (B := (bM M)) (c := 0) (lm_o hL) (rf_X2_isStrapped hL hm rfl)) ?_
    rintro pv2 v2 ev2
    change pv2 = v2.toInt at ev2; subst ev2
    refine r_ite (pc_eq rfl (eI (0 : Int32) (by decide))) ?_ ?_
    · refine r_bind (A := (qM (bM M) m0)) (r_rc (B := (bM M)) (c := 0) (lm_o hL) (rf_X2_keep hL hm)) ?_
      rintro S3 m3 ⟨em3, hm3⟩
      change S3 = pI (bM M) m3 at em3; subst em3
      refine r_bind (A := (qM (bM M) m0)) (r_rc (B := (bM M)) (c := 0) (lm_o hL) (rf_X2_more hL hm3 rfl)) ?_
      rintro S4 m4 ⟨em4, hm4⟩
      change S4 = pI (bM M) m4 at em4; subst em4
      refine r_gr (d := 1) hm4 (lm_o hL) (lm_f0 hL) ?_
      refine r_p32 (px_add (px_n (11 : Int32) (by decide)) (px_v _)) ?_
      refine r_ald (lm_k1 hL) rfl (fun _ => rfl) (fun v6 => ?_)
      exact r_some (qP_i (qI_i rfl) (qM_i hm4))
    · exact r_some (qP_i (qI_i (eI (-1 : Int32) (by decide))) (qM_i hm))
def p_X2_canDown (S : zP) (a1 : Int) (a2 : Int) : Option Int :=
(p_X2_isKin S a1).bind fun v1 =>
if v1 = 0 then (some (0))
else ((p_X2_isIn a2 1 99).bind fun v2 =>
if v2 = 0 then (some (0))
else (p32 (11 + a1) fun x1 =>
(pald S 1 1450 x1).bind fun v4 =>
if v4 < a2 then (some (0))
else (some (1))))
set_option maxHeartbeats 4000000 in
theorem rf_X2_canDown {g : zGd} {M : Nat} {m0 : zMm} (hL : pLM g (zR m0) M) {m : zMm} (hm : pOk (bM M) m0 m) {pa1 : Int} {a1 : Int32} (ea1 : pa1 = a1.toInt) {pa2 : Int} {a2 : Int32} (ea2 : pa2 = a2.toInt) : pRf qI (p_X2_canDown (pI (bM M) m) pa1 pa2) (f_X2_canDown g m (some ((bM M).1 + 0)) a1 a2) := by
  subst ea1
  subst ea2
  unfold p_X2_canDown f_X2_canDown
  refine r_bind (A := qI) (r_rc (B := (bM M)) (c := 0) (lm_o hL) (rf_X2_isKin hL hm rfl)) ?_
  rintro pv1 v1 ev1
  change pv1 = v1.toInt at ev1; subst ev1
  refine r_ite (pc_eq rfl (eI (0 : Int32) (by decide))) ?_ ?_
  · exact r_some (qI_i (eI (0 : Int32) (by decide)))
  · refine r_bind (A := qI) (rf_X2_isIn rfl (eI (1 : Int32) (by decide)) (eI (99 : Int32) (by decide))) ?_
    rintro pv2 v2 ev2
    change pv2 = v2.toInt at ev2; subst ev2
    refine r_ite (pc_eq rfl (eI (0 : Int32) (by decide))) ?_ ?_
    · exact r_some (qI_i (eI (0 : Int32) (by decide)))
    · refine r_gr (d := 1) hm (lm_o hL) (lm_f0 hL) ?_
      refine r_p32 (px_add (px_n (11 : Int32) (by decide)) (px_v _)) ?_
      refine r_ald (lm_k1 hL) rfl (fun _ => rfl) (fun v4 => ?_)
      refine r_ite (pc_lt rfl rfl) ?_ ?_
      · exact r_some (qI_i (eI (0 : Int32) (by decide)))
      · exact r_some (qI_i (eI (1 : Int32) (by decide)))
def p_X2_down (S : zP) (a1 : Int) (a2 : Int) : Option (Int × zP) :=
(p_X2_canDown S a1 a2).bind fun v1 =>
if v1 = 0 then (some ((0, S)))
else ((p_X2_keep S).bind fun S2 =>
p32 (11 + a1) fun v4 =>
(pald S2 1 1450 v4).bind fun v5 =>
p32 (v5 - a2) fun x1 =>
(past S2 1 1450 v4 x1).bind fun S6 =>
some ((1, S6)))
set_option maxHeartbeats 4000000 in
theorem rf_X2_down {g : zGd} {M : Nat} {m0 : zMm} (hL : pLM g (zR m0) M) {m : zMm} (hm : pOk (bM M) m0 m) {pa1 : Int} {a1 : Int32} (ea1 : pa1 = a1.toInt) {pa2 : Int} {a2 : Int32} (ea2 : pa2 = a2.toInt) : pRf (qP qI (qM (bM M) m0)) (p_X2_down (pI (bM M) m) pa1 pa2) (f_X2_down g m (some ((bM M).1 + 0)) a1 a2) := by
  subst ea1
  subst ea2
  unfold p_X2_down f_X2_down
  refine r_bind (A := qI) (r_rc (B := (bM M)) (c := 0) (lm_o hL) (rf_X2_canDown hL hm rfl rfl)) ?_
  rintro pv1 v1 ev1
  change pv1 = v1.toInt at ev1; subst ev1
  refine r_ite (pc_eq rfl (eI (0 : Int32) (by decide))) ?_ ?_
  · exact r_some (qP_i (qI_i (eI (0 : Int32) (by decide))) (qM_i hm))
  · refine r_bind (A := (qM (bM M) m0)) (r_rc (B := (bM M)) (c := 0) (lm_o hL) (rf_X2_keep hL hm)) ?_
    rintro S2 m2 ⟨em2, hm2⟩
    change S2 = pI (bM M) m2 at em2; subst em2
    refine r_gr (d := 1) hm2 (lm_o hL) (lm_f0 hL) ?_
    refine r_lt32 (px_add (px_n (11 : Int32) (by decide)) (px_v _)) (fun v4 => ?_)
    refine r_ald (lm_k1 hL) rfl (fun _ => rfl) (fun v5 => ?_)
    refine r_p32 (px_sub (px_v _) (px_v _)) ?_
    refine r_ast hm2 (lm_k1 hL) hL.1 (wM (by omega)) rfl rfl (fun _ => rfl) (fun m6 hm6 => ?_)
    exact r_some (qP_i (qI_i (eI (1 : Int32) (by decide))) (qM_i hm6))
def p_X2_strap (S : zP) (a1 : Int) : Option (Int × zP) :=
(p_X2_isKin S a1).bind fun v1 =>
if v1 = 0 then (some ((0, S)))
else ((p_X2_keep S).bind fun S2 =>
(pald S2 1 1450 10).bind fun v4 =>
zlt (pshl 1 a1) fun x1 =>
zlt (pxor v4 x1) fun x2 =>
(past S2 1 1450 10 x2).bind fun S5 =>
some ((1, S5)))
set_option maxHeartbeats 4000000 in
theorem rf_X2_strap {g : zGd} {M : Nat} {m0 : zMm} (hL : pLM g (zR m0) M) {m : zMm} (hm : pOk (bM M) m0 m) {pa1 : Int} {a1 : Int32} (ea1 : pa1 = a1.toInt) : pRf (qP qI (qM (bM M) m0)) (p_X2_strap (pI (bM M) m) pa1) (f_X2_strap g m (some ((bM M).1 + 0)) a1) := by
  subst ea1
  unfold p_X2_strap f_X2_strap
  refine r_bind (A := qI) (r_rc (B := (bM M)) (c := 0) (lm_o hL) (rf_X2_isKin hL hm rfl)) ?_
  rintro pv1 v1 ev1
  change pv1 = v1.toInt at ev1; subst ev1
  refine r_ite (pc_eq rfl (eI (0 : Int32) (by decide))) ?_ ?_
  · exact r_some (qP_i (qI_i (eI (0 : Int32) (by decide))) (qM_i hm))
  · refine r_bind (A := (qM (bM M) m0)) (r_rc (B := (bM M)) (c := 0) (lm_o hL) (rf_X2_keep hL hm)) ?_
    rintro S2 m2 ⟨em2, hm2⟩
    change S2 = pI (bM M) m2 at em2; subst em2
    refine r_gr (d := 1) hm2 (lm_o hL) (lm_f0 hL) ?_
    refine r_ald (lm_k1 hL) (eI (10 : Int32) (by decide)) (fun _ => rfl) (fun v4 => ?_)
    refine r_x32 (pe_shl (eI (1 : Int32) (by decide)) rfl) ?_
    refine r_x32 (pe_xor rfl rfl) ?_
    refine r_ast hm2 (lm_k1 hL) hL.1 (wM (by omega)) (eI (10 : Int32) (by decide)) rfl (fun _ => rfl) (fun m5 hm5 => ?_)
    exact r_some (qP_i (qI_i (eI (1 : Int32) (by decide))) (qM_i hm5))
def p_X2_swapNow (S : zP) (a1 : Int) (a2 : Int) : Option zP :=
p32 (17 + a1) fun x1 =>
(pald S 1 1450 x1).bind fun v2 =>
p32 (17 + a2) fun x2 =>
(pald S 1 1450 x2).bind fun v5 =>
(past S 1 1450 x1 v5).bind fun S6 =>
(past S6 1 1450 x2 v2).bind fun S8 =>
some (S8)
set_option maxHeartbeats 4000000 in
theorem rf_X2_swapNow {g : zGd} {M : Nat} {m0 : zMm} (hL : pLM g (zR m0) M) {m : zMm} (hm : pOk (bM M) m0 m) {pa1 : Int} {a1 : Int32} (ea1 : pa1 = a1.toInt) {pa2 : Int} {a2 : Int32} (ea2 : pa2 = a2.toInt) : pRf (qM (bM M) m0) (p_X2_swapNow (pI (bM M) m) pa1 pa2) (f_X2_swapNow g m (some ((bM M).1 + 0)) a1 a2) := by
  subst ea1
  subst ea2
  unfold p_X2_swapNow f_X2_swapNow
  refine r_gr (d := 1) hm (lm_o hL) (lm_f0 hL) ?_
  refine r_p32 (px_add (px_n (17 : Int32) (by decide)) (px_v _)) ?_
  refine r_ald (lm_k1 hL) rfl (fun _ => rfl) (fun v2 => ?_)
  refine r_gr (d := 1) hm (lm_o hL) (lm_f0 hL) ?_
  refine r_gr (d := 1) hm (lm_o hL) (lm_f0 hL) ?_
  refine r_p32 (px_add (px_n (17 : Int32) (by decide)) (px_v _)) ?_
  refine r_ald (lm_k1 hL) rfl (fun _ => rfl) (fun v5 => ?_)
  refine r_ast hm (lm_k1 hL) hL.1 (wM (by omega)) rfl rfl (fun _ => rfl) (fun m6 hm6 => ?_)
  refine r_gr (d := 1) hm6 (lm_o hL) (lm_f0 hL) ?_
  refine r_ast hm6 (lm_k1 hL) hL.1 (wM (by omega)) rfl rfl (fun _ => rfl) (fun m8 hm8 => ?_)
  exact r_some (qM_i hm8)
def p_X2_swap (S : zP) (a1 : Int) (a2 : Int) : Option (Int × zP) :=
(p_X2_isKin S a1).bind fun v1 =>
if v1 = 0 then (some ((0, S)))
else ((p_X2_isKin S a2).bind fun v2 =>
if v2 = 0 then (some ((0, S)))
else (if a1 = a2 then (some ((0, S)))
else ((p_X2_keep S).bind fun S3 =>
(p_X2_swapNow S3 a1 a2).bind fun S4 =>
some ((1, S4)))))
set_option maxHeartbeats 4000000 in
theorem rf_X2_swap {g : zGd} {M : Nat} {m0 : zMm} (hL : pLM g (zR m0) M) {m : zMm} (hm : pOk (bM M) m0 m) {pa1 : Int} {a1 : Int32} (ea1 : pa1 = a1.toInt) {pa2 : Int} {a2 : Int32} (ea2 : pa2 = a2.toInt) : pRf (qP qI (qM (bM M) m0)) (p_X2_swap (pI (bM M) m) pa1 pa2) (f_X2_swap g m (some ((bM M).1 + 0)) a1 a2) := by
  subst ea1
  subst ea2
  unfold p_X2_swap f_X2_swap
  refine r_bind (A := qI) (r_rc (B := (bM M)) (c := 0) (lm_o hL) (rf_X2_isKin hL hm rfl)) ?_
  rintro pv1 v1 ev1
  change pv1 = v1.toInt at ev1; subst ev1
  refine r_ite (pc_eq rfl (eI (0 : Int32) (by decide))) ?_ ?_
  · exact r_some (qP_i (qI_i (eI (0 : Int32) (by decide))) (qM_i hm))
  · refine r_bind (A := qI) (r_rc (B := (bM M)) (c := 0) (lm_o hL) (rf_X2_isKin hL hm rfl)) ?_
    rintro pv2 v2 ev2
    change pv2 = v2.toInt at ev2; subst ev2
    refine r_ite (pc_eq rfl (eI (0 : Int32) (by decide))) ?_ ?_
    · exact r_some (qP_i (qI_i (eI (0 : Int32) (by decide))) (qM_i hm))
    · refine r_ite (pc_eq rfl rfl) ?_ ?_
      · exact r_some (qP_i (qI_i (eI (0 : Int32) (by decide))) (qM_i hm))
      · refine r_bind (A := (qM (bM M) m0)) (r_rc (B := (bM M)) (c := 0) (lm_o hL) (rf_X2_keep hL hm)) ?_
        rintro S3 m3 ⟨em3, hm3⟩
        change S3 = pI (bM M) m3 at em3; subst em3
        refine r_bind (A := (qM (bM M) m0)) (r_rc (B := (bM M)) (c := 0) (lm_o hL) (rf_X2_swapNow hL hm3 rfl rfl)) ?_
        rintro S4 m4 ⟨em4, hm4⟩
        change S4 = pI (bM M) m4 at em4; subst em4
        exact r_some (qP_i (qI_i (eI (1 : Int32) (by decide))) (qM_i hm4))
def pb_X2_whoAt_2 (S : zP) (a1 : Int) : Int → Option (Int ⊕ Int) := fun v4 =>
p32 (17 + v4) fun x1 =>
(pald S 1 1450 x1).bind fun v6 =>
if v6 = a1 then (some (.inl v4))
else (p32 (v4 + 1) fun v7 =>
some (.inr v7))
set_option maxHeartbeats 4000000 in
theorem rb_X2_whoAt_2 {g : zGd} {M : Nat} {m0 : zMm} (hL : pLM g (zR m0) M) {m : zMm} (hm : pOk (bM M) m0 m) {pa1 : Int} {a1 : Int32} (ea1 : pa1 = a1.toInt) : ∀ s t, qI s t → pRf (qS qI qI) (pb_X2_whoAt_2 (pI (bM M) m) pa1 s) (b_X2_whoAt_2 g m (some ((bM M).1 + 0)) a1 t) := by
  subst ea1
  rintro pv4 v4 ev4
  change pv4 = v4.toInt at ev4; subst ev4
  unfold pb_X2_whoAt_2 b_X2_whoAt_2
  try dsimp only
  refine r_gr (d := 1) hm (lm_o hL) (lm_f0 hL) ?_
  refine r_p32 (px_add (px_n (17 : Int32) (by decide)) (px_v _)) ?_
  refine r_ald (lm_k1 hL) rfl (fun _ => rfl) (fun v6 => ?_)
  refine r_ite (pc_eq rfl rfl) ?_ ?_
  · exact r_some (qS_l (qI_i rfl))
  · refine r_lt32 (px_add (px_v _) (px_n (1 : Int32) (by decide))) (fun v7 => ?_)
    exact r_some (qS_r (qI_i rfl))
def p_X2_whoAt (S : zP) (a1 : Int) : Option Int :=
(zLoop (pb_X2_whoAt_2 S a1) zFuel 0).bind fun v2 =>
some (v2)
set_option maxHeartbeats 4000000 in
theorem rf_X2_whoAt {g : zGd} {M : Nat} {m0 : zMm} (hL : pLM g (zR m0) M) {m : zMm} (hm : pOk (bM M) m0 m) {pa1 : Int} {a1 : Int32} (ea1 : pa1 = a1.toInt) : pRf qI (p_X2_whoAt (pI (bM M) m) pa1) (f_X2_whoAt g m (some ((bM M).1 + 0)) a1) := by
  subst ea1
  unfold p_X2_whoAt f_X2_whoAt
  refine r_bind (A := qI) (r_loop (rb_X2_whoAt_2 hL hm rfl) zFuel _ _ (qI_i (eI (0 : Int32) (by decide)))) ?_
  rintro pv2 v2 ev2
  change pv2 = v2.toInt at ev2; subst ev2
  exact r_some (qI_i rfl)
def p_X2_further (S : zP) (a1 : Int) (a2 : Int) : Option Int :=
p32 (17 + a1) fun x1 =>
(pald S 1 1450 x1).bind fun v2 =>
(pald S 1 1450 0).bind fun v4 =>
p32 (v2 + a2) fun x2 =>
(pmod x2 v4).bind fun v5 =>
(p_X2_whoAt S v5).bind fun v6 =>
some (v6)
set_option maxHeartbeats 4000000 in
theorem rf_X2_further {g : zGd} {M : Nat} {m0 : zMm} (hL : pLM g (zR m0) M) {m : zMm} (hm : pOk (bM M) m0 m) {pa1 : Int} {a1 : Int32} (ea1 : pa1 = a1.toInt) {pa2 : Int} {a2 : Int32} (ea2 : pa2 = a2.toInt) : pRf qI (p_X2_further (pI (bM M) m) pa1 pa2) (f_X2_further g m (some ((bM M).1 + 0)) a1 a2) := by
  subst ea1
  subst ea2
  unfold p_X2_further f_X2_further
  refine r_gr (d := 1) hm (lm_o hL) (lm_f0 hL) ?_
  refine r_p32 (px_add (px_n (17 : Int32) (by decide)) (px_v _)) ?_
  refine r_ald (lm_k1 hL) rfl (fun _ => rfl) (fun v2 => ?_)
  refine r_gr (d := 1) hm (lm_o hL) (lm_f0 hL) ?_
  refine r_ald (lm_k1 hL) (eI (0 : Int32) (by decide)) (fun _ => rfl) (fun v4 => ?_)
  refine r_p32 (px_add (px_v _) (px_v _)) ?_
  refine r_mod rfl rfl (fun v5 => ?_)
  refine r_bind (A := qI) (r_rc (B := (bM M)) (c := 0) (lm_o hL) (rf_X2_whoAt hL hm rfl)) ?_
  rintro pv6 v6 ev6
  change pv6 = v6.toInt at ev6; subst ev6
  exact r_some (qI_i rfl)
def p_X2_name (S : zP) (a1 : Int) : Option zP :=
(pald S 1 1450 7).bind fun v3 =>
(past S 6 7 0 v3).bind fun S4 =>
(past S4 6 7 1 a1).bind fun S6 =>
p32 (23 + a1) fun x1 =>
(pald S6 1 1450 x1).bind fun v9 =>
(past S6 6 7 2 v9).bind fun S10 =>
p32 (11 + a1) fun x2 =>
(pald S10 1 1450 x2).bind fun v13 =>
(past S10 6 7 3 v13).bind fun S14 =>
p32 (17 + a1) fun x3 =>
(pald S14 1 1450 x3).bind fun v17 =>
(past S14 6 7 4 v17).bind fun S18 =>
(p_X2_further S18 a1 1).bind fun v21 =>
p32 (11 + v21) fun x4 =>
(pald S18 1 1450 x4).bind fun v22 =>
(pald S18 1 1450 0).bind fun v25 =>
p32 (v25 - 1) fun x5 =>
(p_X2_further S18 a1 x5).bind fun v26 =>
p32 (11 + v26) fun x6 =>
(pald S18 1 1450 x6).bind fun v27 =>
p32 (v22 + v27) fun x7 =>
(past S18 6 7 5 x7).bind fun S28 =>
(pald S28 1 1450 9).bind fun v31 =>
(past S28 6 7 6 v31).bind fun S32 =>
some (S32)
set_option maxHeartbeats 4000000 in
theorem rf_X2_name {g : zGd} {M : Nat} {m0 : zMm} (hL : pLM g (zR m0) M) {m : zMm} (hm : pOk (bM M) m0 m) {pa1 : Int} {a1 : Int32} (ea1 : pa1 = a1.toInt) : pRf (qM (bM M) m0) (p_X2_name (pI (bM M) m) pa1) (f_X2_name g m (some ((bM M).1 + 0)) a1) := by
  subst ea1
  unfold p_X2_name f_X2_name
  refine r_gr (d := 6) hm (lm_o hL) (lm_f20 hL) ?_
  refine r_gr (d := 1) hm (lm_o hL) (lm_f0 hL) ?_
  refine r_ald (lm_k1 hL) (eI (7 : Int32) (by decide)) (fun _ => rfl) (fun v3 => ?_)
  refine r_ast hm (lm_k6 hL) hL.1 (wM (by omega)) (eI (0 : Int32) (by decide)) rfl (fun _ => rfl) (fun m4 hm4 => ?_)
  refine r_gr (d := 6) hm4 (lm_o hL) (lm_f20 hL) ?_
  refine r_ast hm4 (lm_k6 hL) hL.1 (wM (by omega)) (eI (1 : Int32) (by decide)) rfl (fun _ => rfl) (fun m6 hm6 => ?_)
  refine r_gr (d := 6) hm6 (lm_o hL) (lm_f20 hL) ?_
  refine r_gr (d := 1) hm6 (lm_o hL) (lm_f0 hL) ?_
  refine r_p32 (px_add (px_n (23 : Int32) (by decide)) (px_v _)) ?_
  refine r_ald (lm_k1 hL) rfl (fun _ => rfl) (fun v9 => ?_)
  refine r_ast hm6 (lm_k6 hL) hL.1 (wM (by omega)) (eI (2 : Int32) (by decide)) rfl (fun _ => rfl) (fun m10 hm10 => ?_)
  refine r_gr (d := 6) hm10 (lm_o hL) (lm_f20 hL) ?_
  refine r_gr (d := 1) hm10 (lm_o hL) (lm_f0 hL) ?_
  refine r_p32 (px_add (px_n (11 : Int32) (by decide)) (px_v _)) ?_
  refine r_ald (lm_k1 hL) rfl (fun _ => rfl) (fun v13 => ?_)
  refine r_ast hm10 (lm_k6 hL) hL.1 (wM (by omega)) (eI (3 : Int32) (by decide)) rfl (fun _ => rfl) (fun m14 hm14 => ?_)
  refine r_gr (d := 6) hm14 (lm_o hL) (lm_f20 hL) ?_
  refine r_gr (d := 1) hm14 (lm_o hL) (lm_f0 hL) ?_
  refine r_p32 (px_add (px_n (17 : Int32) (by decide)) (px_v _)) ?_
  refine r_ald (lm_k1 hL) rfl (fun _ => rfl) (fun v17 => ?_)
  refine r_ast hm14 (lm_k6 hL) hL.1 (wM (by omega)) (eI (4 : Int32) (by decide)) rfl (fun _ => rfl) (fun m18 hm18 => ?_)
  refine r_gr (d := 6) hm18 (lm_o hL) (lm_f20 hL) ?_
  refine r_gr (d := 1) hm18 (lm_o hL) (lm_f0 hL) ?_
  refine r_bind (A := qI) (r_rc (B := (bM M)) (c := 0) (lm_o hL) (rf_X2_further hL hm18 rfl (eI (1 : Int32) (by decide)))) ?_
  rintro pv21 v21 ev21
  change pv21 = v21.toInt at ev21; subst ev21
  refine r_p32 (px_add (px_n (11 : Int32) (by decide)) (px_v _)) ?_
  refine r_ald (lm_k1 hL) rfl (fun _ => rfl) (fun v22 => ?_)
  refine r_gr (d := 1) hm18 (lm_o hL) (lm_f0 hL) ?_
  refine r_gr (d := 1) hm18 (lm_o hL) (lm_f0 hL) ?_
  refine r_ald (lm_k1 hL) (eI (0 : Int32) (by decide)) (fun _ => rfl) (fun v25 => ?_)
  refine r_p32 (px_sub (px_v _) (px_n (1 : Int32) (by decide))) ?_
  refine r_bind (A := qI) (r_rc (B := (bM M)) (c := 0) (lm_o hL) (rf_X2_further hL hm18 rfl rfl)) ?_
  rintro pv26 v26 ev26
  change pv26 = v26.toInt at ev26; subst ev26
  refine r_p32 (px_add (px_n (11 : Int32) (by decide)) (px_v _)) ?_
  refine r_ald (lm_k1 hL) rfl (fun _ => rfl) (fun v27 => ?_)
  refine r_p32 (px_add (px_v _) (px_v _)) ?_
  refine r_ast hm18 (lm_k6 hL) hL.1 (wM (by omega)) (eI (5 : Int32) (by decide)) rfl (fun _ => rfl) (fun m28 hm28 => ?_)
  refine r_gr (d := 6) hm28 (lm_o hL) (lm_f20 hL) ?_
  refine r_gr (d := 1) hm28 (lm_o hL) (lm_f0 hL) ?_
  refine r_ald (lm_k1 hL) (eI (9 : Int32) (by decide)) (fun _ => rfl) (fun v31 => ?_)
  refine r_ast hm28 (lm_k6 hL) hL.1 (wM (by omega)) (eI (6 : Int32) (by decide)) rfl (fun _ => rfl) (fun m32 hm32 => ?_)
  exact r_some (qM_i hm32)
def p_X2_isAsked (a0 : Int) (a1 : Int) (a3 : Int) : Option Int :=
if a0 = 10 then (if a3 ≤ a1 then (some (0))
else (some (1)))
else (if a0 = 11 then (if a3 < a1 then (some (0))
else (some (1)))
else (if a0 = 12 then (if a1 ≤ a3 then (some (0))
else (some (1)))
else (if a0 = 13 then (if a1 < a3 then (some (0))
else (some (1)))
else (if a0 = 14 then (if a1 = a3 then (some (1))
else (some (0)))
else (if a1 = a3 then (some (0))
else (some (1)))))))
set_option maxHeartbeats 4000000 in
theorem rf_X2_isAsked {pa0 : Int} {a0 : Int32} (ea0 : pa0 = a0.toInt) {pa1 : Int} {a1 : Int64} (ea1 : pa1 = a1.toInt) {pa3 : Int} {a3 : Int64} (ea3 : pa3 = a3.toInt) : pRf qI (p_X2_isAsked pa0 pa1 pa3) (f_X2_isAsked a0 a1 a3) := by
  subst ea0
  subst ea1
  subst ea3
  unfold p_X2_isAsked f_X2_isAsked
  refine r_ite (pc_eq rfl (eI (10 : Int32) (by decide))) ?_ ?_
  · refine r_ite (pcj_le rfl rfl) ?_ ?_
    · exact r_some (qI_i (eI (0 : Int32) (by decide)))
    · exact r_some (qI_i (eI (1 : Int32) (by decide)))
  · refine r_ite (pc_eq rfl (eI (11 : Int32) (by decide))) ?_ ?_
    · refine r_ite (pcj_lt rfl rfl) ?_ ?_
      · exact r_some (qI_i (eI (0 : Int32) (by decide)))
      · exact r_some (qI_i (eI (1 : Int32) (by decide)))
    · refine r_ite (pc_eq rfl (eI (12 : Int32) (by decide))) ?_ ?_
      · refine r_ite (pcj_le rfl rfl) ?_ ?_
        · exact r_some (qI_i (eI (0 : Int32) (by decide)))
        · exact r_some (qI_i (eI (1 : Int32) (by decide)))
      · refine r_ite (pc_eq rfl (eI (13 : Int32) (by decide))) ?_ ?_
        · refine r_ite (pcj_lt rfl rfl) ?_ ?_
          · exact r_some (qI_i (eI (0 : Int32) (by decide)))
          · exact r_some (qI_i (eI (1 : Int32) (by decide)))
        · refine r_ite (pc_eq rfl (eI (14 : Int32) (by decide))) ?_ ?_
          · refine r_ite (pcj_eq rfl rfl) ?_ ?_
            · exact r_some (qI_i (eI (1 : Int32) (by decide)))
            · exact r_some (qI_i (eI (0 : Int32) (by decide)))
          · refine r_ite (pcj_eq rfl rfl) ?_ ?_
            · exact r_some (qI_i (eI (0 : Int32) (by decide)))
            · exact r_some (qI_i (eI (1 : Int32) (by decide)))
def p_X2_joined (a0 : Int) (a1 : Int) (a2 : Int) : Option Int :=
if a0 = 21 then (if a1 = 0 then (some (0))
else (if a2 = 0 then (some (0))
else (some (1))))
else (if a1 = 0 then (if a2 = 0 then (some (0))
else (some (1)))
else (some (1)))
set_option maxHeartbeats 4000000 in
theorem rf_X2_joined {pa0 : Int} {a0 : Int32} (ea0 : pa0 = a0.toInt) {pa1 : Int} {a1 : Int32} (ea1 : pa1 = a1.toInt) {pa2 : Int} {a2 : Int32} (ea2 : pa2 = a2.toInt) : pRf qI (p_X2_joined pa0 pa1 pa2) (f_X2_joined a0 a1 a2) := by
  subst ea0
  subst ea1
  subst ea2
  unfold p_X2_joined f_X2_joined
  refine r_ite (pc_eq rfl (eI (21 : Int32) (by decide))) ?_ ?_
  · refine r_ite (pc_eq rfl (eI (0 : Int32) (by decide))) ?_ ?_
    · exact r_some (qI_i (eI (0 : Int32) (by decide)))
    · refine r_ite (pc_eq rfl (eI (0 : Int32) (by decide))) ?_ ?_
      · exact r_some (qI_i (eI (0 : Int32) (by decide)))
      · exact r_some (qI_i (eI (1 : Int32) (by decide)))
  · refine r_ite (pc_eq rfl (eI (0 : Int32) (by decide))) ?_ ?_
    · refine r_ite (pc_eq rfl (eI (0 : Int32) (by decide))) ?_ ?_
      · exact r_some (qI_i (eI (0 : Int32) (by decide)))
      · exact r_some (qI_i (eI (1 : Int32) (by decide)))
    · exact r_some (qI_i (eI (1 : Int32) (by decide)))
def p_X2_acrossOf (S : zP) (a1 : Int) : Option Int :=
(pald S 1 1450 0).bind fun v2 =>
zlt (pdv v2 2) fun x1 =>
(p_X2_further S a1 x1).bind fun v3 =>
some (v3)
set_option maxHeartbeats 4000000 in
theorem rf_X2_acrossOf {g : zGd} {M : Nat} {m0 : zMm} (hL : pLM g (zR m0) M) {m : zMm} (hm : pOk (bM M) m0 m) {pa1 : Int} {a1 : Int32} (ea1 : pa1 = a1.toInt) : pRf qI (p_X2_acrossOf (pI (bM M) m) pa1) (f_X2_acrossOf g m (some ((bM M).1 + 0)) a1) := by
  subst ea1
  unfold p_X2_acrossOf f_X2_acrossOf
  refine r_gr (d := 1) hm (lm_o hL) (lm_f0 hL) ?_
  refine r_ald (lm_k1 hL) (eI (0 : Int32) (by decide)) (fun _ => rfl) (fun v2 => ?_)
  refine r_x32 (pe_dv (by decide) rfl (eI (2 : Int32) (by decide))) ?_
  refine r_bind (A := qI) (r_rc (B := (bM M)) (c := 0) (lm_o hL) (rf_X2_further hL hm rfl rfl)) ?_
  rintro pv3 v3 ev3
  change pv3 = v3.toInt at ev3; subst ev3
  exact r_some (qI_i rfl)
def p_X2_ofOne (S : zP) (a1 : Int) (a2 : Int) : Option Int :=
if a1 = 5 then (p64 (-a2) fun x1 =>
some (x1))
else (if a2 < 0 then (some (0))
else ((pald S 1 1450 0).bind fun v2 =>
if a2 < v2 then (if a1 = 2 then (p32 a2 fun x2 =>
(p_X2_acrossOf S x2).bind fun v5 =>
some (v5))
else (p32 (11 + a2) fun x3 =>
(pald S 1 1450 x3).bind fun v4 =>
some (v4)))
else (some (0))))
set_option maxHeartbeats 4000000 in
theorem rf_X2_ofOne {g : zGd} {M : Nat} {m0 : zMm} (hL : pLM g (zR m0) M) {m : zMm} (hm : pOk (bM M) m0 m) {pa1 : Int} {a1 : Int32} (ea1 : pa1 = a1.toInt) {pa2 : Int} {a2 : Int64} (ea2 : pa2 = a2.toInt) : pRf qJ (p_X2_ofOne (pI (bM M) m) pa1 pa2) (f_X2_ofOne g m (some ((bM M).1 + 0)) a1 a2) := by
  subst ea1
  subst ea2
  unfold p_X2_ofOne f_X2_ofOne
  refine r_ite (pc_eq rfl (eI (5 : Int32) (by decide))) ?_ ?_
  · refine r_p64 (pj_neg (pj_v _)) ?_
    exact r_some (qJ_i rfl)
  · refine r_ite (pcj_lt rfl (eJ (0 : Int64) (by decide))) ?_ ?_
    · exact r_some (qJ_i (eJ (0 : Int64) (by decide)))
    · refine r_gr (d := 1) hm (lm_o hL) (lm_f0 hL) ?_
      refine r_ald (lm_k1 hL) (eI (0 : Int32) (by decide)) (fun _ => rfl) (fun v2 => ?_)
      refine r_ite (pcj_lt rfl (pe_i64 _)) ?_ ?_
      · refine r_ite (pc_eq rfl (eI (2 : Int32) (by decide))) ?_ ?_
        · refine r_p32 (px_j (pj_v _)) ?_
          refine r_bind (A := qI) (r_rc (B := (bM M)) (c := 0) (lm_o hL) (rf_X2_acrossOf hL hm rfl)) ?_
          rintro pv5 v5 ev5
          change pv5 = v5.toInt at ev5; subst ev5
          exact r_some (qJ_i (pe_i64 _))
        · refine r_gr (d := 1) hm (lm_o hL) (lm_f0 hL) ?_
          refine r_p32 (px_add (px_n (11 : Int32) (by decide)) (px_j (pj_v _))) ?_
          refine r_ald (lm_k1 hL) rfl (fun _ => rfl) (fun v4 => ?_)
          exact r_some (qJ_i (pe_i64 _))
      · exact r_some (qJ_i (eJ (0 : Int64) (by decide)))
def p_X2_clip (a0 : Int) : Option Int :=
if a0 ≤ 1000000 then (if (-1000000) ≤ a0 then (some (a0))
else (some ((-1000000))))
else (some (1000000))
set_option maxHeartbeats 4000000 in
theorem rf_X2_clip {pa0 : Int} {a0 : Int64} (ea0 : pa0 = a0.toInt) : pRf qJ (p_X2_clip pa0) (f_X2_clip a0) := by
  subst ea0
  unfold p_X2_clip f_X2_clip
  refine r_ite (pcj_le rfl (eJ (1000000 : Int64) (by decide))) ?_ ?_
  · refine r_ite (pcj_le (eJ (-1000000 : Int64) (by decide)) rfl) ?_ ?_
    · exact r_some (qJ_i rfl)
    · exact r_some (qJ_i (eJ (-1000000 : Int64) (by decide)))
  · exact r_some (qJ_i (eJ (1000000 : Int64) (by decide)))
def p_X2_two (a0 : Int) (a1 : Int) (a3 : Int) : Option Int :=
if a0 = 6 then (p64 (a1 + a3) fun x1 =>
(p_X2_clip x1).bind fun w1 =>
some (w1))
else (if a0 = 7 then (p64 (a1 - a3) fun x2 =>
(p_X2_clip x2).bind fun w2 =>
some (w2))
else (if a0 = 8 then (p64 (a1 * a3) fun x3 =>
(p_X2_clip x3).bind fun w3 =>
some (w3))
else (if a3 = 0 then (some (0))
else ((pjdiv a1 a3).bind fun w4 =>
(p_X2_clip w4).bind fun w5 =>
some (w5)))))
set_option maxHeartbeats 4000000 in
theorem rf_X2_two {pa0 : Int} {a0 : Int32} (ea0 : pa0 = a0.toInt) {pa1 : Int} {a1 : Int64} (ea1 : pa1 = a1.toInt) {pa3 : Int} {a3 : Int64} (ea3 : pa3 = a3.toInt) : pRf qJ (p_X2_two pa0 pa1 pa3) (f_X2_two a0 a1 a3) := by
  subst ea0
  subst ea1
  subst ea3
  unfold p_X2_two f_X2_two
  refine r_ite (pc_eq rfl (eI (6 : Int32) (by decide))) ?_ ?_
  · refine r_p64 (pj_add (pj_v _) (pj_v _)) ?_
    refine r_bind (A := qJ) (rf_X2_clip rfl) ?_
    rintro pw1 w1 ew1
    change pw1 = w1.toInt at ew1; subst ew1
    exact r_some (qJ_i rfl)
  · refine r_ite (pc_eq rfl (eI (7 : Int32) (by decide))) ?_ ?_
    · refine r_p64 (pj_sub (pj_v _) (pj_v _)) ?_
      refine r_bind (A := qJ) (rf_X2_clip rfl) ?_
      rintro pw2 w2 ew2
      change pw2 = w2.toInt at ew2; subst ew2
      exact r_some (qJ_i rfl)
    · refine r_ite (pc_eq rfl (eI (8 : Int32) (by decide))) ?_ ?_
      · refine r_p64 (pj_mul (pj_v _) (pj_v _)) ?_
        refine r_bind (A := qJ) (rf_X2_clip rfl) ?_
        rintro pw3 w3 ew3
        change pw3 = w3.toInt at ew3; subst ew3
        exact r_some (qJ_i rfl)
      · refine r_ite (pcj_eq rfl (eJ (0 : Int64) (by decide))) ?_ ?_
        · exact r_some (qJ_i (eJ (0 : Int64) (by decide)))
        · refine r_ldiv rfl rfl (fun w4 => ?_)
          refine r_bind (A := qJ) (rf_X2_clip rfl) ?_
          rintro pw5 w5 ew5
          change pw5 = w5.toInt at ew5; subst ew5
          exact r_some (qJ_i rfl)
def pb_X2_summedUp_38 (v1 : Int) (v2 : Int) : (Int × (Int × (Int × zP))) → Option (zP ⊕ (Int × (Int × (Int × zP)))) := fun (v8, v9, v10, S11) =>
p32 (v1 + 2) fun x1 =>
(pald S11 3 2724 x1).bind fun v13 =>
if v13 ≤ v10 then (some (.inl S11))
else (p32 (v2 + (2 * v10)) fun x2 =>
(pald S11 3 2724 x2).bind fun v15 =>
p32 ((v2 + (2 * v10)) + 1) fun x3 =>
(pald S11 3 2724 x3).bind fun v17 =>
if 1 < v15 then (if v15 = 3 then (p32 (v8 + (-1)) fun v59 =>
p32 (v9 + (-1)) fun v60 =>
(pald S11 8 330 v60).bind fun v62 =>
if v62 = 0 then ((pald S11 7 330 v59).bind fun w66 =>
p32 (v59 - 1) fun x4 =>
(past S11 7 330 x4 w66).bind fun S67 =>
p32 (v10 + 1) fun v68 =>
some (.inr (v59, v60, v68, S67)))
else (p32 (v10 + 1) fun v63 =>
some (.inr (v59, v60, v63, S11))))
else (if 5 < v15 then (if 10 ≤ v15 then (if 20 ≤ v15 then (if v15 = 20 then (p32 (v9 - 1) fun x5 =>
(pald S11 8 330 x5).bind fun v29 =>
if v29 = 0 then (zlt (pnz 1) fun x6 =>
(past S11 8 330 x5 x6).bind fun S32 =>
p32 (v10 + 1) fun v33 =>
some (.inr (v8, v9, v33, S32)))
else (zlt (pnz 0) fun x7 =>
(past S11 8 330 x5 x7).bind fun S30 =>
p32 (v10 + 1) fun v31 =>
some (.inr (v8, v9, v31, S30))))
else (p32 (v9 + (-1)) fun v18 =>
p32 (v18 - 1) fun x8 =>
(pald S11 8 330 x8).bind fun v21 =>
(pald S11 8 330 v18).bind fun v23 =>
(p_X2_joined v15 v21 v23).bind fun v24 =>
zlt (pnz v24) fun x9 =>
(past S11 8 330 x8 x9).bind fun S25 =>
p32 (v10 + 1) fun v26 =>
some (.inr (v8, v18, v26, S25))))
else (p32 (v8 + (-2)) fun v34 =>
(pald S11 7 330 v34).bind fun w37 =>
p32 (v34 + 1) fun x10 =>
(pald S11 7 330 x10).bind fun w39 =>
(p_X2_isAsked v15 w37 w39).bind fun v40 =>
zlt (pnz v40) fun x11 =>
(past S11 8 330 v9 x11).bind fun S41 =>
p32 (v9 + 1) fun v42 =>
p32 (v10 + 1) fun v43 =>
some (.inr (v34, v42, v43, S41))))
else (p32 (v8 + (-1)) fun v44 =>
p32 (v44 - 1) fun x12 =>
(pald S11 7 330 x12).bind fun w47 =>
(pald S11 7 330 v44).bind fun w49 =>
(p_X2_two v15 w47 w49).bind fun w50 =>
(past S11 7 330 x12 w50).bind fun S51 =>
p32 (v10 + 1) fun v52 =>
some (.inr (v44, v9, v52, S51))))
else (p32 (v8 - 1) fun x13 =>
(pald S11 7 330 x13).bind fun w55 =>
(p_X2_ofOne S11 v15 w55).bind fun w56 =>
(past S11 7 330 x13 w56).bind fun S57 =>
p32 (v10 + 1) fun v58 =>
some (.inr (v8, v9, v58, S57)))))
else (if v15 = 0 then ((past S11 7 330 v8 v17).bind fun S75 =>
p32 (v8 + 1) fun v76 =>
p32 (v10 + 1) fun v77 =>
some (.inr (v76, v9, v77, S75)))
else ((pald S11 6 7 v17).bind fun v71 =>
(past S11 7 330 v8 v71).bind fun S72 =>
p32 (v8 + 1) fun v73 =>
p32 (v10 + 1) fun v74 =>
some (.inr (v73, v9, v74, S72)))))
set_option maxHeartbeats 4000000 in
theorem rb_X2_summedUp_38 {g : zGd} {M : Nat} {m0 : zMm} (hL : pLM g (zR m0) M) {pv1 : Int} {v1 : Int32} (ev1 : pv1 = v1.toInt) {pv2 : Int} {v2 : Int32} (ev2 : pv2 = v2.toInt) : ∀ s t, (qP qI (qP qI (qP qI (qM (bM M) m0)))) s t → pRf (qS (qM (bM M) m0) (qP qI (qP qI (qP qI (qM (bM M) m0))))) (pb_X2_summedUp_38 pv1 pv2 s) (b_X2_summedUp_38 g (some ((bM M).1 + 0)) v1 v2 t) := by
  subst ev1
  subst ev2
  rintro ⟨pv8, pv9, pv10, S11⟩ ⟨v8, v9, v10, m11⟩ ⟨ev8, ev9, ev10, ⟨em11, hm11⟩⟩
  change pv8 = v8.toInt at ev8; subst ev8
  change pv9 = v9.toInt at ev9; subst ev9
  change pv10 = v10.toInt at ev10; subst ev10
  change S11 = pI (bM M) m11 at em11; subst em11
  unfold pb_X2_summedUp_38 b_X2_summedUp_38
  try dsimp only
  refine r_gr (d := 3) hm11 (lm_o hL) (lm_f2 hL) ?_
  refine r_p32 (px_add (px_v _) (px_n (2 : Int32) (by decide))) ?_
  refine r_ald (lm_k3 hL) rfl (fun _ => rfl) (fun v13 => ?_)
  refine r_ite (pc_le rfl rfl) ?_ ?_
  · exact r_some (qS_l (qM_i hm11))
  · refine r_gr (d := 3) hm11 (lm_o hL) (lm_f2 hL) ?_
    refine r_p32 (px_add (px_v _) (px_mul (px_n (2 : Int32) (by decide)) (px_v _))) ?_
    refine r_ald (lm_k3 hL) rfl (fun _ => rfl) (fun v15 => ?_)
    refine r_gr (d := 3) hm11 (lm_o hL) (lm_f2 hL) ?_
    refine r_p32 (px_add (px_add (px_v _) (px_mul (px_n (2 : Int32) (by decide)) (px_v _))) (px_n (1 : Int32) (by decide))) ?_
    refine r_ald (lm_k3 hL) rfl (fun _ => rfl) (fun v17 => ?_)
    refine r_ite (pc_lt (eI (1 : Int32) (by decide)) rfl) ?_ ?_
    · refine r_ite (pc_eq rfl (eI (3 : Int32) (by decide))) ?_ ?_
      · refine r_lt32 (px_add (px_v _) (px_n (-1 : Int32) (by decide))) (fun v59 => ?_)
        refine r_lt32 (px_add (px_v _) (px_n (-1 : Int32) (by decide))) (fun v60 => ?_)
        refine r_gr (d := 8) hm11 (lm_o hL) (lm_f22 hL) ?_
        refine r_ald (lm_k8 hL) rfl (fun _ => rfl) (fun v62 => ?_)
        refine r_ite (pc_eq rfl (eI (0 : Int32) (by decide))) ?_ ?_
        · refine r_gr (d := 7) hm11 (lm_o hL) (lm_f21 hL) ?_
          refine r_gr (d := 7) hm11 (lm_o hL) (lm_f21 hL) ?_
          refine r_aldj (lm_k7 hL) rfl (fun _ => rfl) (fun w66 => ?_)
          refine r_p32 (px_sub (px_v _) (px_n (1 : Int32) (by decide))) ?_
          refine r_astj hm11 (lm_k7 hL) hL.1 (wM (by omega)) rfl rfl (fun _ => rfl) (fun m67 hm67 => ?_)
          refine r_lt32 (px_add (px_v _) (px_n (1 : Int32) (by decide))) (fun v68 => ?_)
          exact r_some (qS_r (qP_i (qI_i rfl) (qP_i (qI_i rfl) (qP_i (qI_i rfl) (qM_i hm67)))))
        · refine r_lt32 (px_add (px_v _) (px_n (1 : Int32) (by decide))) (fun v63 => ?_)
          exact r_some (qS_r (qP_i (qI_i rfl) (qP_i (qI_i rfl) (qP_i (qI_i rfl) (qM_i hm11)))))
      · refine r_ite (pc_lt (eI (5 : Int32) (by decide)) rfl) ?_ ?_
        · refine r_ite (pc_le (eI (10 : Int32) (by decide)) rfl) ?_ ?_
          · refine r_ite (pc_le (eI (20 : Int32) (by decide)) rfl) ?_ ?_
            · refine r_ite (pc_eq rfl (eI (20 : Int32) (by decide))) ?_ ?_
              · refine r_gr (d := 8) hm11 (lm_o hL) (lm_f22 hL) ?_
                refine r_gr (d := 8) hm11 (lm_o hL) (lm_f22 hL) ?_
                refine r_p32 (px_sub (px_v _) (px_n (1 : Int32) (by decide))) ?_
                refine r_ald (lm_k8 hL) rfl (fun _ => rfl) (fun v29 => ?_)
                refine r_ite (pc_eq rfl (eI (0 : Int32) (by decide))) ?_ ?_
                · refine r_x32 (pe_nz (eI (1 : Int32) (by decide))) ?_
                  refine r_ast hm11 (lm_k8 hL) hL.1 (wM (by omega)) rfl rfl (fun _ => rfl) (fun m32 hm32 => ?_)
                  refine r_lt32 (px_add (px_v _) (px_n (1 : Int32) (by decide))) (fun v33 => ?_)
                  exact r_some (qS_r (qP_i (qI_i rfl) (qP_i (qI_i rfl) (qP_i (qI_i rfl) (qM_i hm32)))))
                · refine r_x32 (pe_nz (eI (0 : Int32) (by decide))) ?_
                  refine r_ast hm11 (lm_k8 hL) hL.1 (wM (by omega)) rfl rfl (fun _ => rfl) (fun m30 hm30 => ?_)
                  refine r_lt32 (px_add (px_v _) (px_n (1 : Int32) (by decide))) (fun v31 => ?_)
                  exact r_some (qS_r (qP_i (qI_i rfl) (qP_i (qI_i rfl) (qP_i (qI_i rfl) (qM_i hm30)))))
              · refine r_lt32 (px_add (px_v _) (px_n (-1 : Int32) (by decide))) (fun v18 => ?_)
                refine r_gr (d := 8) hm11 (lm_o hL) (lm_f22 hL) ?_
                refine r_gr (d := 8) hm11 (lm_o hL) (lm_f22 hL) ?_
                refine r_p32 (px_sub (px_v _) (px_n (1 : Int32) (by decide))) ?_
                refine r_ald (lm_k8 hL) rfl (fun _ => rfl) (fun v21 => ?_)
                refine r_gr (d := 8) hm11 (lm_o hL) (lm_f22 hL) ?_
                refine r_ald (lm_k8 hL) rfl (fun _ => rfl) (fun v23 => ?_)
                refine r_bind (A := qI) (rf_X2_joined rfl rfl rfl) ?_
                rintro pv24 v24 ev24
                change pv24 = v24.toInt at ev24; subst ev24
                refine r_x32 (pe_nz rfl) ?_
                refine r_ast hm11 (lm_k8 hL) hL.1 (wM (by omega)) rfl rfl (fun _ => rfl) (fun m25 hm25 => ?_)
                refine r_lt32 (px_add (px_v _) (px_n (1 : Int32) (by decide))) (fun v26 => ?_)
                exact r_some (qS_r (qP_i (qI_i rfl) (qP_i (qI_i rfl) (qP_i (qI_i rfl) (qM_i hm25)))))
            · refine r_lt32 (px_add (px_v _) (px_n (-2 : Int32) (by decide))) (fun v34 => ?_)
              refine r_gr (d := 8) hm11 (lm_o hL) (lm_f22 hL) ?_
              refine r_gr (d := 7) hm11 (lm_o hL) (lm_f21 hL) ?_
              refine r_aldj (lm_k7 hL) rfl (fun _ => rfl) (fun w37 => ?_)
              refine r_gr (d := 7) hm11 (lm_o hL) (lm_f21 hL) ?_
              refine r_p32 (px_add (px_v _) (px_n (1 : Int32) (by decide))) ?_
              refine r_aldj (lm_k7 hL) rfl (fun _ => rfl) (fun w39 => ?_)
              refine r_bind (A := qI) (rf_X2_isAsked rfl rfl rfl) ?_
              rintro pv40 v40 ev40
              change pv40 = v40.toInt at ev40; subst ev40
              refine r_x32 (pe_nz rfl) ?_
              refine r_ast hm11 (lm_k8 hL) hL.1 (wM (by omega)) rfl rfl (fun _ => rfl) (fun m41 hm41 => ?_)
              refine r_lt32 (px_add (px_v _) (px_n (1 : Int32) (by decide))) (fun v42 => ?_)
              refine r_lt32 (px_add (px_v _) (px_n (1 : Int32) (by decide))) (fun v43 => ?_)
              exact r_some (qS_r (qP_i (qI_i rfl) (qP_i (qI_i rfl) (qP_i (qI_i rfl) (qM_i hm41)))))
          · refine r_lt32 (px_add (px_v _) (px_n (-1 : Int32) (by decide))) (fun v44 => ?_)
            refine r_gr (d := 7) hm11 (lm_o hL) (lm_f21 hL) ?_
            refine r_gr (d := 7) hm11 (lm_o hL) (lm_f21 hL) ?_
            refine r_p32 (px_sub (px_v _) (px_n (1 : Int32) (by decide))) ?_
            refine r_aldj (lm_k7 hL) rfl (fun _ => rfl) (fun w47 => ?_)
            refine r_gr (d := 7) hm11 (lm_o hL) (lm_f21 hL) ?_
            refine r_aldj (lm_k7 hL) rfl (fun _ => rfl) (fun w49 => ?_)
            refine r_bind (A := qJ) (rf_X2_two rfl rfl rfl) ?_
            rintro pw50 w50 ew50
            change pw50 = w50.toInt at ew50; subst ew50
            refine r_astj hm11 (lm_k7 hL) hL.1 (wM (by omega)) rfl rfl (fun _ => rfl) (fun m51 hm51 => ?_)
            refine r_lt32 (px_add (px_v _) (px_n (1 : Int32) (by decide))) (fun v52 => ?_)
            exact r_some (qS_r (qP_i (qI_i rfl) (qP_i (qI_i rfl) (qP_i (qI_i rfl) (qM_i hm51)))))
        · refine r_gr (d := 7) hm11 (lm_o hL) (lm_f21 hL) ?_
          refine r_gr (d := 7) hm11 (lm_o hL) (lm_f21 hL) ?_
          refine r_p32 (px_sub (px_v _) (px_n (1 : Int32) (by decide))) ?_
          refine r_aldj (lm_k7 hL) rfl (fun _ => rfl) (fun w55 => ?_)
          refine r_bind (A := qJ) (r_rc (B := (bM M)) (c := 0) (lm_o hL) (rf_X2_ofOne hL hm11 rfl rfl)) ?_
          rintro pw56 w56 ew56
          change pw56 = w56.toInt at ew56; subst ew56
          refine r_astj hm11 (lm_k7 hL) hL.1 (wM (by omega)) rfl rfl (fun _ => rfl) (fun m57 hm57 => ?_)
          refine r_lt32 (px_add (px_v _) (px_n (1 : Int32) (by decide))) (fun v58 => ?_)
          exact r_some (qS_r (qP_i (qI_i rfl) (qP_i (qI_i rfl) (qP_i (qI_i rfl) (qM_i hm57)))))
    · refine r_gr (d := 7) hm11 (lm_o hL) (lm_f21 hL) ?_
      refine r_ite (pc_eq rfl (eI (0 : Int32) (by decide))) ?_ ?_
      · refine r_astj hm11 (lm_k7 hL) hL.1 (wM (by omega)) rfl (pe_i64 _) (fun _ => rfl) (fun m75 hm75 => ?_)
        refine r_lt32 (px_add (px_v _) (px_n (1 : Int32) (by decide))) (fun v76 => ?_)
        refine r_lt32 (px_add (px_v _) (px_n (1 : Int32) (by decide))) (fun v77 => ?_)
        exact r_some (qS_r (qP_i (qI_i rfl) (qP_i (qI_i rfl) (qP_i (qI_i rfl) (qM_i hm75)))))
      · refine r_gr (d := 6) hm11 (lm_o hL) (lm_f20 hL) ?_
        refine r_ald (lm_k6 hL) rfl (fun _ => rfl) (fun v71 => ?_)
        refine r_astj hm11 (lm_k7 hL) hL.1 (wM (by omega)) rfl (pe_i64 _) (fun _ => rfl) (fun m72 hm72 => ?_)
        refine r_lt32 (px_add (px_v _) (px_n (1 : Int32) (by decide))) (fun v73 => ?_)
        refine r_lt32 (px_add (px_v _) (px_n (1 : Int32) (by decide))) (fun v74 => ?_)
        exact r_some (qS_r (qP_i (qI_i rfl) (qP_i (qI_i rfl) (qP_i (qI_i rfl) (qM_i hm72)))))
def p_X2_summedUp (S : zP) (a1 : Int) (a2 : Int) : Option (Int × zP) :=
p32 (((681 * a1) + 1) + (3 * a2)) fun v1 =>
p32 ((681 * a1) + 73) fun v2 =>
p32 (v1 + 1) fun x1 =>
(pald S 3 2724 x1).bind fun v4 =>
(zLoop (pb_X2_summedUp_38 v1 v2) zFuel (0, 0, v4, S)).bind fun S6 =>
(pald S6 7 330 0).bind fun w79 =>
some ((w79, S6))
set_option maxHeartbeats 4000000 in
theorem rf_X2_summedUp {g : zGd} {M : Nat} {m0 : zMm} (hL : pLM g (zR m0) M) {m : zMm} (hm : pOk (bM M) m0 m) {pa1 : Int} {a1 : Int32} (ea1 : pa1 = a1.toInt) {pa2 : Int} {a2 : Int32} (ea2 : pa2 = a2.toInt) : pRf (qP qJ (qM (bM M) m0)) (p_X2_summedUp (pI (bM M) m) pa1 pa2) (f_X2_summedUp g m (some ((bM M).1 + 0)) a1 a2) := by
  subst ea1
  subst ea2
  unfold p_X2_summedUp f_X2_summedUp
  refine r_lt32 (px_add (px_add (px_mul (px_n (681 : Int32) (by decide)) (px_v _)) (px_n (1 : Int32) (by decide))) (px_mul (px_n (3 : Int32) (by decide)) (px_v _))) (fun v1 => ?_)
  refine r_lt32 (px_add (px_mul (px_n (681 : Int32) (by decide)) (px_v _)) (px_n (73 : Int32) (by decide))) (fun v2 => ?_)
  refine r_gr (d := 3) hm (lm_o hL) (lm_f2 hL) ?_
  refine r_p32 (px_add (px_v _) (px_n (1 : Int32) (by decide))) ?_
  refine r_ald (lm_k3 hL) rfl (fun _ => rfl) (fun v4 => ?_)
  refine r_bind (A := (qM (bM M) m0)) (r_loop (rb_X2_summedUp_38 hL rfl rfl) zFuel _ _ (qP_i (qI_i (eI (0 : Int32) (by decide))) (qP_i (qI_i (eI (0 : Int32) (by decide))) (qP_i (qI_i rfl) (qM_i hm))))) ?_
  rintro S6 m6 ⟨em6, hm6⟩
  change S6 = pI (bM M) m6 at em6; subst em6
  refine r_gr (d := 7) hm6 (lm_o hL) (lm_f21 hL) ?_
  refine r_aldj (lm_k7 hL) (eI (0 : Int32) (by decide)) (fun _ => rfl) (fun w79 => ?_)
  exact r_some (qP_i (qJ_i rfl) (qM_i hm6))
def pb_X2_says_3 (S : zP) (a1 : Int) (a2 : Int) (a4 : Int) : Int → Option (((Int × zP) ⊕ Unit) ⊕ Int) := fun v3 =>
if a1 < 0 then (some (.inl (.inr ())))
else (p32 (681 * a1) fun x1 =>
(pald S 3 2724 x1).bind fun v5 =>
if v5 ≤ v3 then (some (.inl (.inr ())))
else (p32 (((681 * a1) + 1) + (3 * v3)) fun x2 =>
(pald S 3 2724 x2).bind fun v7 =>
if v7 = a2 then ((p_X2_summedUp S a1 v3).bind fun (w9, S10) =>
(p_X2_held w9 0 a4).bind fun v11 =>
some (.inl (.inl (v11, S10))))
else (p32 (v3 + 1) fun v8 =>
some (.inr v8))))
set_option maxHeartbeats 4000000 in
theorem rb_X2_says_3 {g : zGd} {M : Nat} {m0 : zMm} (hL : pLM g (zR m0) M) {m : zMm} (hm : pOk (bM M) m0 m) {pa1 : Int} {a1 : Int32} (ea1 : pa1 = a1.toInt) {pa2 : Int} {a2 : Int32} (ea2 : pa2 = a2.toInt) {pa4 : Int} {a4 : Int32} (ea4 : pa4 = a4.toInt) : ∀ s t, qI s t → pRf (qS (qS (qP qI (qM (bM M) m0)) qU) qI) (pb_X2_says_3 (pI (bM M) m) pa1 pa2 pa4 s) (b_X2_says_3 g m (some ((bM M).1 + 0)) a1 a2 a4 t) := by
  subst ea1
  subst ea2
  subst ea4
  rintro pv3 v3 ev3
  change pv3 = v3.toInt at ev3; subst ev3
  unfold pb_X2_says_3 b_X2_says_3
  try dsimp only
  refine r_ite (pc_lt rfl (eI (0 : Int32) (by decide))) ?_ ?_
  · exact r_some (qS_l (qS_r qU_i))
  · refine r_gr (d := 3) hm (lm_o hL) (lm_f2 hL) ?_
    refine r_p32 (px_mul (px_n (681 : Int32) (by decide)) (px_v _)) ?_
    refine r_ald (lm_k3 hL) rfl (fun _ => rfl) (fun v5 => ?_)
    refine r_ite (pc_le rfl rfl) ?_ ?_
    · exact r_some (qS_l (qS_r qU_i))
    · refine r_gr (d := 3) hm (lm_o hL) (lm_f2 hL) ?_
      refine r_p32 (px_add (px_add (px_mul (px_n (681 : Int32) (by decide)) (px_v _)) (px_n (1 : Int32) (by decide))) (px_mul (px_n (3 : Int32) (by decide)) (px_v _))) ?_
      refine r_ald (lm_k3 hL) rfl (fun _ => rfl) (fun v7 => ?_)
      refine r_ite (pc_eq rfl rfl) ?_ ?_
      · refine r_bind (A := (qP qJ (qM (bM M) m0))) (r_rc (B := (bM M)) (c := 0) (lm_o hL) (rf_X2_summedUp hL hm rfl rfl)) ?_
        rintro ⟨pw9, S10⟩ ⟨w9, m10⟩ ⟨ew9, ⟨em10, hm10⟩⟩
        change pw9 = w9.toInt at ew9; subst ew9
        change S10 = pI (bM M) m10 at em10; subst em10
        refine r_bind (A := qI) (rf_X2_held rfl (eI (0 : Int32) (by decide)) rfl) ?_
        rintro pv11 v11 ev11
        change pv11 = v11.toInt at ev11; subst ev11
        exact r_some (qS_l (qS_l (qP_i (qI_i rfl) (qM_i hm10))))
      · refine r_lt32 (px_add (px_v _) (px_n (1 : Int32) (by decide))) (fun v8 => ?_)
        exact r_some (qS_r (qI_i rfl))
def p_X2_says (S : zP) (a1 : Int) (a2 : Int) (a3 : Int) (a4 : Int) : Option (Int × zP) :=
zEx (σ := Unit) (zLoop (pb_X2_says_3 S a1 a2 a4) zFuel 0) fun _ =>
some ((a3, S))
set_option maxHeartbeats 4000000 in
theorem rf_X2_says {g : zGd} {M : Nat} {m0 : zMm} (hL : pLM g (zR m0) M) {m : zMm} (hm : pOk (bM M) m0 m) {pa1 : Int} {a1 : Int32} (ea1 : pa1 = a1.toInt) {pa2 : Int} {a2 : Int32} (ea2 : pa2 = a2.toInt) {pa3 : Int} {a3 : Int32} (ea3 : pa3 = a3.toInt) {pa4 : Int} {a4 : Int32} (ea4 : pa4 = a4.toInt) : pRf (qP qI (qM (bM M) m0)) (p_X2_says (pI (bM M) m) pa1 pa2 pa3 pa4) (f_X2_says g m (some ((bM M).1 + 0)) a1 a2 a3 a4) := by
  subst ea1
  subst ea2
  subst ea3
  subst ea4
  unfold p_X2_says f_X2_says
  refine r_ex (Q := (qP qI (qM (bM M) m0))) (R := qU) ?_ ?_
  · exact (r_loop (rb_X2_says_3 hL hm rfl rfl rfl) zFuel _ _ (qI_i (eI (0 : Int32) (by decide))))
  rintro _ _ _
  exact r_some (qP_i (qI_i rfl) (qM_i hm))
def p_X2_bearsOf (S : zP) (a1 : Int) : Option (Int × zP) :=
(p_X2_name S a1).bind fun S1 =>
(pald S1 1 1450 2).bind fun v3 =>
(p_X2_says S1 v3 1 5 99).bind fun (v4, S5) =>
some ((v4, S5))
set_option maxHeartbeats 4000000 in
theorem rf_X2_bearsOf {g : zGd} {M : Nat} {m0 : zMm} (hL : pLM g (zR m0) M) {m : zMm} (hm : pOk (bM M) m0 m) {pa1 : Int} {a1 : Int32} (ea1 : pa1 = a1.toInt) : pRf (qP qI (qM (bM M) m0)) (p_X2_bearsOf (pI (bM M) m) pa1) (f_X2_bearsOf g m (some ((bM M).1 + 0)) a1) := by
  subst ea1
  unfold p_X2_bearsOf f_X2_bearsOf
  refine r_bind (A := (qM (bM M) m0)) (r_rc (B := (bM M)) (c := 0) (lm_o hL) (rf_X2_name hL hm rfl)) ?_
  rintro S1 m1 ⟨em1, hm1⟩
  change S1 = pI (bM M) m1 at em1; subst em1
  refine r_gr (d := 1) hm1 (lm_o hL) (lm_f0 hL) ?_
  refine r_ald (lm_k1 hL) (eI (2 : Int32) (by decide)) (fun _ => rfl) (fun v3 => ?_)
  refine r_bind (A := (qP qI (qM (bM M) m0))) (r_rc (B := (bM M)) (c := 0) (lm_o hL) (rf_X2_says hL hm1 rfl (eI (1 : Int32) (by decide)) (eI (5 : Int32) (by decide)) (eI (99 : Int32) (by decide)))) ?_
  rintro ⟨pv4, S5⟩ ⟨v4, m5⟩ ⟨ev4, ⟨em5, hm5⟩⟩
  change pv4 = v4.toInt at ev4; subst ev4
  change S5 = pI (bM M) m5 at em5; subst em5
  exact r_some (qP_i (qI_i rfl) (qM_i hm5))
def p_X2_anew (S : zP) : Option zP :=
(pald S 1 1450 8).bind fun v3 =>
p64 ((v3 * 673) + 547) fun x1 =>
p32 (prm x1 30971) fun x2 =>
(past S 1 1450 8 x2).bind fun S4 =>
some (S4)
set_option maxHeartbeats 4000000 in
theorem rf_X2_anew {g : zGd} {M : Nat} {m0 : zMm} (hL : pLM g (zR m0) M) {m : zMm} (hm : pOk (bM M) m0 m) : pRf (qM (bM M) m0) (p_X2_anew (pI (bM M) m)) (f_X2_anew g m (some ((bM M).1 + 0))) := by
  unfold p_X2_anew f_X2_anew
  refine r_gr (d := 1) hm (lm_o hL) (lm_f0 hL) ?_
  refine r_gr (d := 1) hm (lm_o hL) (lm_f0 hL) ?_
  refine r_ald (lm_k1 hL) (eI (8 : Int32) (by decide)) (fun _ => rfl) (fun v3 => ?_)
  refine r_p64 (pj_add (pj_mul (pj_i _) (pj_n (673 : Int64) (by decide))) (pj_n (547 : Int64) (by decide))) ?_
  refine r_p32 (px_j (pj_e (pe_lrm (by decide) rfl (eJ (30971 : Int64) (by decide))))) ?_
  refine r_ast hm (lm_k1 hL) hL.1 (wM (by omega)) (eI (8 : Int32) (by decide)) rfl (fun _ => rfl) (fun m4 hm4 => ?_)
  exact r_some (qM_i hm4)
def p_X2_drawnBy (S : zP) (a1 : Int) : Option (Int × zP) :=
(pald S 1 1450 8).bind fun v2 =>
(pmod v2 a1).bind fun v3 =>
(p_X2_anew S).bind fun S4 =>
some ((v3, S4))
set_option maxHeartbeats 4000000 in
theorem rf_X2_drawnBy {g : zGd} {M : Nat} {m0 : zMm} (hL : pLM g (zR m0) M) {m : zMm} (hm : pOk (bM M) m0 m) {pa1 : Int} {a1 : Int32} (ea1 : pa1 = a1.toInt) : pRf (qP qI (qM (bM M) m0)) (p_X2_drawnBy (pI (bM M) m) pa1) (f_X2_drawnBy g m (some ((bM M).1 + 0)) a1) := by
  subst ea1
  unfold p_X2_drawnBy f_X2_drawnBy
  refine r_gr (d := 1) hm (lm_o hL) (lm_f0 hL) ?_
  refine r_ald (lm_k1 hL) (eI (8 : Int32) (by decide)) (fun _ => rfl) (fun v2 => ?_)
  refine r_mod rfl rfl (fun v3 => ?_)
  refine r_bind (A := (qM (bM M) m0)) (r_rc (B := (bM M)) (c := 0) (lm_o hL) (rf_X2_anew hL hm)) ?_
  rintro S4 m4 ⟨em4, hm4⟩
  change S4 = pI (bM M) m4 at em4; subst em4
  exact r_some (qP_i (qI_i rfl) (qM_i hm4))
def pb_X2_write_15  : (Int × zP) → Option (zP ⊕ (Int × zP)) := fun (v8, S9) =>
if 25 ≤ v8 then (some (.inl S9))
else (zlt (S9 0 23) fun v10 =>
if v10 = 0 then (some (.inl S9))
else (p32 (1425 + v8) fun x1 =>
(pald S9 1 1450 x1).bind fun v13 =>
p32 ((1425 + v8) - 1) fun x2 =>
(past S9 1 1450 x2 v13).bind fun S14 =>
p32 (v8 + 1) fun v15 =>
some (.inr (v15, S14))))
set_option maxHeartbeats 4000000 in
theorem rb_X2_write_15 {g : zGd} {M : Nat} {m0 : zMm} (hL : pLM g (zR m0) M)  : ∀ s t, (qP qI (qM (bM M) m0)) s t → pRf (qS (qM (bM M) m0) (qP qI (qM (bM M) m0))) (pb_X2_write_15 s) (b_X2_write_15 g (some ((bM M).1 + 0)) t) := by
  rintro ⟨pv8, S9⟩ ⟨v8, m9⟩ ⟨ev8, ⟨em9, hm9⟩⟩
  change pv8 = v8.toInt at ev8; subst ev8
  change S9 = pI (bM M) m9 at em9; subst em9
  unfold pb_X2_write_15 b_X2_write_15
  try dsimp only
  refine r_ite (pc_le (eI (25 : Int32) (by decide)) rfl) ?_ ?_
  · exact r_some (qS_l (qM_i hm9))
  · refine r_gi (B := (bM M)) (c := 0) (i := 23) (lm_o hL) rfl rfl (fun v10 => ?_)
    refine r_ite (pc_eq rfl (eI (0 : Int32) (by decide))) ?_ ?_
    · exact r_some (qS_l (qM_i hm9))
    · refine r_gr (d := 1) hm9 (lm_o hL) (lm_f0 hL) ?_
      refine r_gr (d := 1) hm9 (lm_o hL) (lm_f0 hL) ?_
      refine r_p32 (px_add (px_n (1425 : Int32) (by decide)) (px_v _)) ?_
      refine r_ald (lm_k1 hL) rfl (fun _ => rfl) (fun v13 => ?_)
      refine r_p32 (px_sub (px_add (px_n (1425 : Int32) (by decide)) (px_v _)) (px_n (1 : Int32) (by decide))) ?_
      refine r_ast hm9 (lm_k1 hL) hL.1 (wM (by omega)) rfl rfl (fun _ => rfl) (fun m14 hm14 => ?_)
      refine r_lt32 (px_add (px_v _) (px_n (1 : Int32) (by decide))) (fun v15 => ?_)
      exact r_some (qS_r (qP_i (qI_i rfl) (qM_i hm14)))
def p_X2_write (S : zP) (a1 : Int) (a2 : Int) (a3 : Int) : Option zP :=
(pald S 1 1450 9).bind fun v2 =>
((if v2 = 25 then ((zLoop pb_X2_write_15 zFuel (1, S)).bind fun S6 =>
(pald S6 1 1450 9).bind fun v17 =>
p32 (v17 - 1) fun x1 =>
(past S6 1 1450 9 x1).bind fun S18 =>
some (S18))
else (some (S)) : Option zP)).bind fun S4 =>
zlt (S4 0 23) fun v19 =>
((if v19 = 0 then (some (S4))
else ((pald S4 1 1450 9).bind fun v24 =>
(pald S4 1 1450 7).bind fun v26 =>
p32 (1425 + v24) fun x2 =>
p32 (((((((v26 * 6) + a1) * 64) + a2) * 7) + a3) + 1) fun x3 =>
(past S4 1 1450 x2 x3).bind fun S27 =>
some (S27)) : Option zP)).bind fun S21 =>
(pald S21 1 1450 9).bind fun v29 =>
p32 (v29 + 1) fun x4 =>
(past S21 1 1450 9 x4).bind fun S30 =>
some (S30)
set_option maxHeartbeats 4000000 in
theorem rf_X2_write {g : zGd} {M : Nat} {m0 : zMm} (hL : pLM g (zR m0) M) {m : zMm} (hm : pOk (bM M) m0 m) {pa1 : Int} {a1 : Int32} (ea1 : pa1 = a1.toInt) {pa2 : Int} {a2 : Int32} (ea2 : pa2 = a2.toInt) {pa3 : Int} {a3 : Int32} (ea3 : pa3 = a3.toInt) : pRf (qM (bM M) m0) (p_X2_write (pI (bM M) m) pa1 pa2 pa3) (f_X2_write g m (some ((bM M).1 + 0)) a1 a2 a3) := by
  subst ea1
  subst ea2
  subst ea3
  unfold p_X2_write f_X2_write
  refine r_gr (d := 1) hm (lm_o hL) (lm_f0 hL) ?_
  refine r_ald (lm_k1 hL) (eI (9 : Int32) (by decide)) (fun _ => rfl) (fun v2 => ?_)
  refine r_bind (A := (qM (bM M) m0)) ?_ ?_
  · refine r_ite (pc_eq rfl (eI (25 : Int32) (by decide))) ?_ ?_
    · refine r_bind (A := (qM (bM M) m0)) (r_loop (rb_X2_write_15 hL) zFuel _ _ (qP_i (qI_i (eI (1 : Int32) (by decide))) (qM_i hm))) ?_
      rintro S6 m6 ⟨em6, hm6⟩
      change S6 = pI (bM M) m6 at em6; subst em6
      refine r_gr (d := 1) hm6 (lm_o hL) (lm_f0 hL) ?_
      refine r_ald (lm_k1 hL) (eI (9 : Int32) (by decide)) (fun _ => rfl) (fun v17 => ?_)
      refine r_p32 (px_sub (px_v _) (px_n (1 : Int32) (by decide))) ?_
      refine r_ast hm6 (lm_k1 hL) hL.1 (wM (by omega)) (eI (9 : Int32) (by decide)) rfl (fun _ => rfl) (fun m18 hm18 => ?_)
      exact r_some (qM_i hm18)
    · exact r_some (qM_i hm)
  rintro S4 m4 ⟨em4, hm4⟩
  change S4 = pI (bM M) m4 at em4; subst em4
  refine r_gi (B := (bM M)) (c := 0) (i := 23) (lm_o hL) rfl rfl (fun v19 => ?_)
  refine r_bind (A := (qM (bM M) m0)) ?_ ?_
  · refine r_ite (pc_eq rfl (eI (0 : Int32) (by decide))) ?_ ?_
    · exact r_some (qM_i hm4)
    · refine r_gr (d := 1) hm4 (lm_o hL) (lm_f0 hL) ?_
      refine r_gr (d := 1) hm4 (lm_o hL) (lm_f0 hL) ?_
      refine r_ald (lm_k1 hL) (eI (9 : Int32) (by decide)) (fun _ => rfl) (fun v24 => ?_)
      refine r_gr (d := 1) hm4 (lm_o hL) (lm_f0 hL) ?_
      refine r_ald (lm_k1 hL) (eI (7 : Int32) (by decide)) (fun _ => rfl) (fun v26 => ?_)
      refine r_p32 (px_add (px_n (1425 : Int32) (by decide)) (px_v _)) ?_
      refine r_p32 (px_add (px_add (px_mul (px_add (px_mul (px_add (px_mul (px_v _) (px_n (6 : Int32) (by decide))) (px_v _)) (px_n (64 : Int32) (by decide))) (px_v _)) (px_n (7 : Int32) (by decide))) (px_v _)) (px_n (1 : Int32) (by decide))) ?_
      refine r_ast hm4 (lm_k1 hL) hL.1 (wM (by omega)) rfl rfl (fun _ => rfl) (fun m27 hm27 => ?_)
      exact r_some (qM_i hm27)
  rintro S21 m21 ⟨em21, hm21⟩
  change S21 = pI (bM M) m21 at em21; subst em21
  refine r_gr (d := 1) hm21 (lm_o hL) (lm_f0 hL) ?_
  refine r_ald (lm_k1 hL) (eI (9 : Int32) (by decide)) (fun _ => rfl) (fun v29 => ?_)
  refine r_p32 (px_add (px_v _) (px_n (1 : Int32) (by decide))) ?_
  refine r_ast hm21 (lm_k1 hL) hL.1 (wM (by omega)) (eI (9 : Int32) (by decide)) rfl (fun _ => rfl) (fun m30 hm30 => ?_)
  exact r_some (qM_i hm30)
def pb_X2_looseNow_21 (a1 : Int) (S4 : zP) : (Int × Int) → Option ((Int × Int) ⊕ (Int × Int)) := fun (v10, v11) =>
if v11 = a1 then (some (.inl (v10, v11)))
else (p32 (11 + v11) fun x1 =>
(pald S4 1 1450 x1).bind fun v13 =>
if v13 = 0 then (zlt (pshl 1 v11) fun x2 =>
zlt (por v10 x2) fun v14 =>
(p_X2_further S4 v11 1).bind fun v15 =>
some (.inr (v14, v15)))
else (some (.inl (v10, v11))))
set_option maxHeartbeats 4000000 in
theorem rb_X2_looseNow_21 {g : zGd} {M : Nat} {m0 : zMm} (hL : pLM g (zR m0) M) {pa1 : Int} {a1 : Int32} (ea1 : pa1 = a1.toInt) {m4 : zMm} (hm4 : pOk (bM M) m0 m4) : ∀ s t, (qP qI qI) s t → pRf (qS (qP qI qI) (qP qI qI)) (pb_X2_looseNow_21 pa1 (pI (bM M) m4) s) (b_X2_looseNow_21 g (some ((bM M).1 + 0)) a1 m4 t) := by
  subst ea1
  rintro ⟨pv10, pv11⟩ ⟨v10, v11⟩ ⟨ev10, ev11⟩
  change pv10 = v10.toInt at ev10; subst ev10
  change pv11 = v11.toInt at ev11; subst ev11
  unfold pb_X2_looseNow_21 b_X2_looseNow_21
  try dsimp only
  refine r_ite (pc_eq rfl rfl) ?_ ?_
  · exact r_some (qS_l (qP_i (qI_i rfl) (qI_i rfl)))
  · refine r_gr (d := 1) hm4 (lm_o hL) (lm_f0 hL) ?_
    refine r_p32 (px_add (px_n (11 : Int32) (by decide)) (px_v _)) ?_
    refine r_ald (lm_k1 hL) rfl (fun _ => rfl) (fun v13 => ?_)
    refine r_ite (pc_eq rfl (eI (0 : Int32) (by decide))) ?_ ?_
    · refine r_x32 (pe_shl (eI (1 : Int32) (by decide)) rfl) ?_
      refine r_ltx (pe_or rfl rfl) (fun v14 => ?_)
      refine r_bind (A := qI) (r_rc (B := (bM M)) (c := 0) (lm_o hL) (rf_X2_further hL hm4 rfl (eI (1 : Int32) (by decide)))) ?_
      rintro pv15 v15 ev15
      change pv15 = v15.toInt at ev15; subst ev15
      exact r_some (qS_r (qP_i (qI_i rfl) (qI_i rfl)))
    · exact r_some (qS_l (qP_i (qI_i rfl) (qI_i rfl)))
def p_X2_looseNow (S : zP) (a1 : Int) : Option zP :=
p32 (11 + a1) fun v2 =>
(pald S 1 1450 v2).bind fun v3 =>
zlt (pdv v3 2) fun x1 =>
(past S 1 1450 v2 x1).bind fun S4 =>
(p_X2_acrossOf S4 a1).bind fun v5 =>
(zLoop (pb_X2_looseNow_21 a1 S4) zFuel (0, v5)).bind fun (v7, v8) =>
((if v8 = a1 then (some (S4))
else ((p_X2_more S4 v8).bind fun S18 =>
some (S18)) : Option zP)).bind fun S17 =>
zlt (S17 0 24) fun v19 =>
zlt (pw32 (v19 + 1)) fun x2 =>
zlt (pup S17 0 24 x2) fun S20 =>
((if v8 = a1 then (some ((-1)))
else (some (v8)) : Option Int)).bind fun v22 =>
(p_X2_write S20 a1 v7 v22).bind fun S23 =>
some (S23)
set_option maxHeartbeats 4000000 in
theorem rf_X2_looseNow {g : zGd} {M : Nat} {m0 : zMm} (hL : pLM g (zR m0) M) {m : zMm} (hm : pOk (bM M) m0 m) {pa1 : Int} {a1 : Int32} (ea1 : pa1 = a1.toInt) : pRf (qM (bM M) m0) (p_X2_looseNow (pI (bM M) m) pa1) (f_X2_looseNow g m (some ((bM M).1 + 0)) a1) := by
  subst ea1
  unfold p_X2_looseNow f_X2_looseNow
  refine r_gr (d := 1) hm (lm_o hL) (lm_f0 hL) ?_
  refine r_lt32 (px_add (px_n (11 : Int32) (by decide)) (px_v _)) (fun v2 => ?_)
  refine r_ald (lm_k1 hL) rfl (fun _ => rfl) (fun v3 => ?_)
  refine r_x32 (pe_dv (by decide) rfl (eI (2 : Int32) (by decide))) ?_
  refine r_ast hm (lm_k1 hL) hL.1 (wM (by omega)) rfl rfl (fun _ => rfl) (fun m4 hm4 => ?_)
  refine r_bind (A := qI) (r_rc (B := (bM M)) (c := 0) (lm_o hL) (rf_X2_acrossOf hL hm4 rfl)) ?_
  rintro pv5 v5 ev5
  change pv5 = v5.toInt at ev5; subst ev5
  refine r_bind (A := (qP qI qI)) (r_loop (rb_X2_looseNow_21 hL rfl hm4) zFuel _ _ (qP_i (qI_i (eI (0 : Int32) (by decide))) (qI_i rfl))) ?_
  rintro ⟨pv7, pv8⟩ ⟨v7, v8⟩ ⟨ev7, ev8⟩
  change pv7 = v7.toInt at ev7; subst ev7
  change pv8 = v8.toInt at ev8; subst ev8
  refine r_bind (A := (qM (bM M) m0)) ?_ ?_
  · refine r_ite (pc_eq rfl rfl) ?_ ?_
    · exact r_some (qM_i hm4)
    · refine r_bind (A := (qM (bM M) m0)) (r_rc (B := (bM M)) (c := 0) (lm_o hL) (rf_X2_more hL hm4 rfl)) ?_
      rintro S18 m18 ⟨em18, hm18⟩
      change S18 = pI (bM M) m18 at em18; subst em18
      exact r_some (qM_i hm18)
  rintro S17 m17 ⟨em17, hm17⟩
  change S17 = pI (bM M) m17 at em17; subst em17
  refine r_gi (B := (bM M)) (c := 0) (i := 24) (lm_o hL) rfl rfl (fun v19 => ?_)
  refine r_x32 (pe_w (px_add (px_v _) (px_n (1 : Int32) (by decide)))) ?_
  refine r_pi (B := (bM M)) (c := 0) (i := 24) hm17 (lm_o hL) hL.1 (wM (by omega)) rfl rfl rfl (fun m20 hm20 => ?_)
  refine r_bind (A := qI) ?_ ?_
  · refine r_ite (pc_eq rfl rfl) ?_ ?_
    · exact r_some (qI_i (eI (-1 : Int32) (by decide)))
    · exact r_some (qI_i rfl)
  rintro pv22 v22 ev22
  change pv22 = v22.toInt at ev22; subst ev22
  refine r_bind (A := (qM (bM M) m0)) (r_rc (B := (bM M)) (c := 0) (lm_o hL) (rf_X2_write hL hm20 rfl rfl rfl)) ?_
  rintro S23 m23 ⟨em23, hm23⟩
  change S23 = pI (bM M) m23 at em23; subst em23
  exact r_some (qM_i hm23)
def p_X2_reachesOf (S : zP) (a1 : Int) (a2 : Int) : Option (Int × zP) :=
(p_X2_name S a2).bind fun S1 =>
p32 (23 + a2) fun x1 =>
(pald S1 1 1450 x1).bind fun v3 =>
(p_X2_says S1 a1 0 v3 10).bind fun (v4, S5) =>
some ((v4, S5))
set_option maxHeartbeats 4000000 in
theorem rf_X2_reachesOf {g : zGd} {M : Nat} {m0 : zMm} (hL : pLM g (zR m0) M) {m : zMm} (hm : pOk (bM M) m0 m) {pa1 : Int} {a1 : Int32} (ea1 : pa1 = a1.toInt) {pa2 : Int} {a2 : Int32} (ea2 : pa2 = a2.toInt) : pRf (qP qI (qM (bM M) m0)) (p_X2_reachesOf (pI (bM M) m) pa1 pa2) (f_X2_reachesOf g m (some ((bM M).1 + 0)) a1 a2) := by
  subst ea1
  subst ea2
  unfold p_X2_reachesOf f_X2_reachesOf
  refine r_bind (A := (qM (bM M) m0)) (r_rc (B := (bM M)) (c := 0) (lm_o hL) (rf_X2_name hL hm rfl)) ?_
  rintro S1 m1 ⟨em1, hm1⟩
  change S1 = pI (bM M) m1 at em1; subst em1
  refine r_gr (d := 1) hm1 (lm_o hL) (lm_f0 hL) ?_
  refine r_p32 (px_add (px_n (23 : Int32) (by decide)) (px_v _)) ?_
  refine r_ald (lm_k1 hL) rfl (fun _ => rfl) (fun v3 => ?_)
  refine r_bind (A := (qP qI (qM (bM M) m0))) (r_rc (B := (bM M)) (c := 0) (lm_o hL) (rf_X2_says hL hm1 rfl (eI (0 : Int32) (by decide)) rfl (eI (10 : Int32) (by decide)))) ?_
  rintro ⟨pv4, S5⟩ ⟨v4, m5⟩ ⟨ev4, ⟨em5, hm5⟩⟩
  change pv4 = v4.toInt at ev4; subst ev4
  change S5 = pI (bM M) m5 at em5; subst em5
  exact r_some (qP_i (qI_i rfl) (qM_i hm5))
def pb_X2_pass_2  : (Int × zP) → Option (zP ⊕ (Int × zP)) := fun (v4, S5) =>
(pald S5 1 1450 0).bind fun v7 =>
if v7 ≤ v4 then (some (.inl S5))
else ((p_X2_whoAt S5 v4).bind fun v8 =>
(p_X2_isStrapped S5 v8).bind fun v9 =>
if v9 = 0 then ((p_X2_drawnBy S5 10).bind fun (v11, S12) =>
(pald S12 1 1450 2).bind fun v14 =>
(p_X2_reachesOf S12 v14 v8).bind fun (v15, S16) =>
if v15 ≤ v11 then (p32 (v4 + 1) fun v17 =>
some (.inr (v17, S16)))
else ((p_X2_more S16 v8).bind fun S18 =>
p32 (v4 + 1) fun v19 =>
some (.inr (v19, S18))))
else (p32 (v4 + 1) fun v10 =>
some (.inr (v10, S5))))
set_option maxHeartbeats 4000000 in
theorem rb_X2_pass_2 {g : zGd} {M : Nat} {m0 : zMm} (hL : pLM g (zR m0) M)  : ∀ s t, (qP qI (qM (bM M) m0)) s t → pRf (qS (qM (bM M) m0) (qP qI (qM (bM M) m0))) (pb_X2_pass_2 s) (b_X2_pass_2 g (some ((bM M).1 + 0)) t) := by
  rintro ⟨pv4, S5⟩ ⟨v4, m5⟩ ⟨ev4, ⟨em5, hm5⟩⟩
  change pv4 = v4.toInt at ev4; subst ev4
  change S5 = pI (bM M) m5 at em5; subst em5
  unfold pb_X2_pass_2 b_X2_pass_2
  try dsimp only
  refine r_gr (d := 1) hm5 (lm_o hL) (lm_f0 hL) ?_
  refine r_ald (lm_k1 hL) (eI (0 : Int32) (by decide)) (fun _ => rfl) (fun v7 => ?_)
  refine r_ite (pc_le rfl rfl) ?_ ?_
  · exact r_some (qS_l (qM_i hm5))
  · refine r_bind (A := qI) (r_rc (B := (bM M)) (c := 0) (lm_o hL) (rf_X2_whoAt hL hm5 rfl)) ?_
    rintro pv8 v8 ev8
    change pv8 = v8.toInt at ev8; subst ev8
    refine r_bind (A := qI) (r_rc (B := (bM M)) (c := 0) (lm_o hL) (rf_X2_isStrapped hL hm5 rfl)) ?_
    rintro pv9 v9 ev9
    change pv9 = v9.toInt at ev9; subst ev9
    refine r_ite (pc_eq rfl (eI (0 : Int32) (by decide))) ?_ ?_
    · refine r_bind (A := (qP qI (qM (bM M) m0))) (r_rc (B := (bM M)) (c := 0) (lm_o hL) (rf_X2_drawnBy hL hm5 (eI (10 : Int32) (by decide)))) ?_
      rintro ⟨pv11, S12⟩ ⟨v11, m12⟩ ⟨ev11, ⟨em12, hm12⟩⟩
      change pv11 = v11.toInt at ev11; subst ev11
      change S12 = pI (bM M) m12 at em12; subst em12
      refine r_gr (d := 1) hm12 (lm_o hL) (lm_f0 hL) ?_
      refine r_ald (lm_k1 hL) (eI (2 : Int32) (by decide)) (fun _ => rfl) (fun v14 => ?_)
      refine r_bind (A := (qP qI (qM (bM M) m0))) (r_rc (B := (bM M)) (c := 0) (lm_o hL) (rf_X2_reachesOf hL hm12 rfl rfl)) ?_
      rintro ⟨pv15, S16⟩ ⟨v15, m16⟩ ⟨ev15, ⟨em16, hm16⟩⟩
      change pv15 = v15.toInt at ev15; subst ev15
      change S16 = pI (bM M) m16 at em16; subst em16
      refine r_ite (pc_le rfl rfl) ?_ ?_
      · refine r_lt32 (px_add (px_v _) (px_n (1 : Int32) (by decide))) (fun v17 => ?_)
        exact r_some (qS_r (qP_i (qI_i rfl) (qM_i hm16)))
      · refine r_bind (A := (qM (bM M) m0)) (r_rc (B := (bM M)) (c := 0) (lm_o hL) (rf_X2_more hL hm16 rfl)) ?_
        rintro S18 m18 ⟨em18, hm18⟩
        change S18 = pI (bM M) m18 at em18; subst em18
        refine r_lt32 (px_add (px_v _) (px_n (1 : Int32) (by decide))) (fun v19 => ?_)
        exact r_some (qS_r (qP_i (qI_i rfl) (qM_i hm18)))
    · refine r_lt32 (px_add (px_v _) (px_n (1 : Int32) (by decide))) (fun v10 => ?_)
      exact r_some (qS_r (qP_i (qI_i rfl) (qM_i hm5)))
def pb_X2_pass_59  : (Int × zP) → Option (zP ⊕ (Int × zP)) := fun (v23, S24) =>
(pald S24 1 1450 0).bind fun v26 =>
if v26 ≤ v23 then (some (.inl S24))
else ((p_X2_whoAt S24 v23).bind fun v27 =>
(p_X2_isStrapped S24 v27).bind fun v28 =>
if v28 = 0 then (p32 (11 + v27) fun x1 =>
(pald S24 1 1450 x1).bind fun v31 =>
(p_X2_bearsOf S24 v27).bind fun (v32, S33) =>
if v31 ≤ v32 then (p32 (v23 + 1) fun v34 =>
some (.inr (v34, S33)))
else ((p_X2_looseNow S33 v27).bind fun S35 =>
p32 (v23 + 1) fun v36 =>
some (.inr (v36, S35))))
else (p32 (v23 + 1) fun v29 =>
some (.inr (v29, S24))))
set_option maxHeartbeats 4000000 in
theorem rb_X2_pass_59 {g : zGd} {M : Nat} {m0 : zMm} (hL : pLM g (zR m0) M)  : ∀ s t, (qP qI (qM (bM M) m0)) s t → pRf (qS (qM (bM M) m0) (qP qI (qM (bM M) m0))) (pb_X2_pass_59 s) (b_X2_pass_59 g (some ((bM M).1 + 0)) t) := by
  rintro ⟨pv23, S24⟩ ⟨v23, m24⟩ ⟨ev23, ⟨em24, hm24⟩⟩
  change pv23 = v23.toInt at ev23; subst ev23
  change S24 = pI (bM M) m24 at em24; subst em24
  unfold pb_X2_pass_59 b_X2_pass_59
  try dsimp only
  refine r_gr (d := 1) hm24 (lm_o hL) (lm_f0 hL) ?_
  refine r_ald (lm_k1 hL) (eI (0 : Int32) (by decide)) (fun _ => rfl) (fun v26 => ?_)
  refine r_ite (pc_le rfl rfl) ?_ ?_
  · exact r_some (qS_l (qM_i hm24))
  · refine r_bind (A := qI) (r_rc (B := (bM M)) (c := 0) (lm_o hL) (rf_X2_whoAt hL hm24 rfl)) ?_
    rintro pv27 v27 ev27
    change pv27 = v27.toInt at ev27; subst ev27
    refine r_bind (A := qI) (r_rc (B := (bM M)) (c := 0) (lm_o hL) (rf_X2_isStrapped hL hm24 rfl)) ?_
    rintro pv28 v28 ev28
    change pv28 = v28.toInt at ev28; subst ev28
    refine r_ite (pc_eq rfl (eI (0 : Int32) (by decide))) ?_ ?_
    · refine r_gr (d := 1) hm24 (lm_o hL) (lm_f0 hL) ?_
      refine r_p32 (px_add (px_n (11 : Int32) (by decide)) (px_v _)) ?_
      refine r_ald (lm_k1 hL) rfl (fun _ => rfl) (fun v31 => ?_)
      refine r_bind (A := (qP qI (qM (bM M) m0))) (r_rc (B := (bM M)) (c := 0) (lm_o hL) (rf_X2_bearsOf hL hm24 rfl)) ?_
      rintro ⟨pv32, S33⟩ ⟨v32, m33⟩ ⟨ev32, ⟨em33, hm33⟩⟩
      change pv32 = v32.toInt at ev32; subst ev32
      change S33 = pI (bM M) m33 at em33; subst em33
      refine r_ite (pc_le rfl rfl) ?_ ?_
      · refine r_lt32 (px_add (px_v _) (px_n (1 : Int32) (by decide))) (fun v34 => ?_)
        exact r_some (qS_r (qP_i (qI_i rfl) (qM_i hm33)))
      · refine r_bind (A := (qM (bM M) m0)) (r_rc (B := (bM M)) (c := 0) (lm_o hL) (rf_X2_looseNow hL hm33 rfl)) ?_
        rintro S35 m35 ⟨em35, hm35⟩
        change S35 = pI (bM M) m35 at em35; subst em35
        refine r_lt32 (px_add (px_v _) (px_n (1 : Int32) (by decide))) (fun v36 => ?_)
        exact r_some (qS_r (qP_i (qI_i rfl) (qM_i hm35)))
    · refine r_lt32 (px_add (px_v _) (px_n (1 : Int32) (by decide))) (fun v29 => ?_)
      exact r_some (qS_r (qP_i (qI_i rfl) (qM_i hm24)))
def p_X2_pass (S : zP) : Option zP :=
(zLoop pb_X2_pass_2 zFuel (0, S)).bind fun S2 =>
(zLoop pb_X2_pass_59 zFuel (0, S2)).bind fun S21 =>
(pald S21 1 1450 7).bind fun v38 =>
p32 (v38 + 1) fun x1 =>
(past S21 1 1450 7 x1).bind fun S39 =>
some (S39)
set_option maxHeartbeats 4000000 in
theorem rf_X2_pass {g : zGd} {M : Nat} {m0 : zMm} (hL : pLM g (zR m0) M) {m : zMm} (hm : pOk (bM M) m0 m) : pRf (qM (bM M) m0) (p_X2_pass (pI (bM M) m)) (f_X2_pass g m (some ((bM M).1 + 0))) := by
  unfold p_X2_pass f_X2_pass
  refine r_bind (A := (qM (bM M) m0)) (r_loop (rb_X2_pass_2 hL) zFuel _ _ (qP_i (qI_i (eI (0 : Int32) (by decide))) (qM_i hm))) ?_
  rintro S2 m2 ⟨em2, hm2⟩
  change S2 = pI (bM M) m2 at em2; subst em2
  refine r_bind (A := (qM (bM M) m0)) (r_loop (rb_X2_pass_59 hL) zFuel _ _ (qP_i (qI_i (eI (0 : Int32) (by decide))) (qM_i hm2))) ?_
  rintro S21 m21 ⟨em21, hm21⟩
  change S21 = pI (bM M) m21 at em21; subst em21
  refine r_gr (d := 1) hm21 (lm_o hL) (lm_f0 hL) ?_
  refine r_ald (lm_k1 hL) (eI (7 : Int32) (by decide)) (fun _ => rfl) (fun v38 => ?_)
  refine r_p32 (px_add (px_v _) (px_n (1 : Int32) (by decide))) ?_
  refine r_ast hm21 (lm_k1 hL) hL.1 (wM (by omega)) (eI (7 : Int32) (by decide)) rfl (fun _ => rfl) (fun m39 hm39 => ?_)
  exact r_some (qM_i hm39)
def pb_X2_arePassed_7 (a1 : Int) : (Int × zP) → Option (((Int × zP) ⊕ zP) ⊕ (Int × zP)) := fun (v5, S6) =>
if a1 ≤ v5 then (some (.inl (.inr S6)))
else ((pald S6 1 1450 7).bind fun v8 =>
if v8 = 9999 then (some (.inl (.inl (0, S6))))
else ((p_X2_keep S6).bind fun S9 =>
(p_X2_pass S9).bind fun S10 =>
p32 (v5 + 1) fun v11 =>
some (.inr (v11, S10))))
set_option maxHeartbeats 4000000 in
theorem rb_X2_arePassed_7 {g : zGd} {M : Nat} {m0 : zMm} (hL : pLM g (zR m0) M) {pa1 : Int} {a1 : Int32} (ea1 : pa1 = a1.toInt) : ∀ s t, (qP qI (qM (bM M) m0)) s t → pRf (qS (qS (qP qI (qM (bM M) m0)) (qM (bM M) m0)) (qP qI (qM (bM M) m0))) (pb_X2_arePassed_7 pa1 s) (b_X2_arePassed_7 g (some ((bM M).1 + 0)) a1 t) := by
  subst ea1
  rintro ⟨pv5, S6⟩ ⟨v5, m6⟩ ⟨ev5, ⟨em6, hm6⟩⟩
  change pv5 = v5.toInt at ev5; subst ev5
  change S6 = pI (bM M) m6 at em6; subst em6
  unfold pb_X2_arePassed_7 b_X2_arePassed_7
  try dsimp only
  refine r_ite (pc_le rfl rfl) ?_ ?_
  · exact r_some (qS_l (qS_r (qM_i hm6)))
  · refine r_gr (d := 1) hm6 (lm_o hL) (lm_f0 hL) ?_
    refine r_ald (lm_k1 hL) (eI (7 : Int32) (by decide)) (fun _ => rfl) (fun v8 => ?_)
    refine r_ite (pc_eq rfl (eI (9999 : Int32) (by decide))) ?_ ?_
    · exact r_some (qS_l (qS_l (qP_i (qI_i (eI (0 : Int32) (by decide))) (qM_i hm6))))
    · refine r_bind (A := (qM (bM M) m0)) (r_rc (B := (bM M)) (c := 0) (lm_o hL) (rf_X2_keep hL hm6)) ?_
      rintro S9 m9 ⟨em9, hm9⟩
      change S9 = pI (bM M) m9 at em9; subst em9
      refine r_bind (A := (qM (bM M) m0)) (r_rc (B := (bM M)) (c := 0) (lm_o hL) (rf_X2_pass hL hm9)) ?_
      rintro S10 m10 ⟨em10, hm10⟩
      change S10 = pI (bM M) m10 at em10; subst em10
      refine r_lt32 (px_add (px_v _) (px_n (1 : Int32) (by decide))) (fun v11 => ?_)
      exact r_some (qS_r (qP_i (qI_i rfl) (qM_i hm10)))
def p_X2_arePassed (S : zP) (a1 : Int) : Option (Int × zP) :=
zlt (pup S 0 24 0) fun S1 =>
zEx (σ := zP) (zLoop (pb_X2_arePassed_7 a1) zFuel (0, S1)) fun S3 =>
some ((1, S3))
set_option maxHeartbeats 4000000 in
theorem rf_X2_arePassed {g : zGd} {M : Nat} {m0 : zMm} (hL : pLM g (zR m0) M) {m : zMm} (hm : pOk (bM M) m0 m) {pa1 : Int} {a1 : Int32} (ea1 : pa1 = a1.toInt) : pRf (qP qI (qM (bM M) m0)) (p_X2_arePassed (pI (bM M) m) pa1) (f_X2_arePassed g m (some ((bM M).1 + 0)) a1) := by
  subst ea1
  unfold p_X2_arePassed f_X2_arePassed
  refine r_pi (B := (bM M)) (c := 0) (i := 24) hm (lm_o hL) hL.1 (wM (by omega)) rfl rfl (eI (0 : Int32) (by decide)) (fun m1 hm1 => ?_)
  refine r_ex (Q := (qP qI (qM (bM M) m0))) (R := (qM (bM M) m0)) ?_ ?_
  · exact (r_loop (rb_X2_arePassed_7 hL rfl) zFuel _ _ (qP_i (qI_i (eI (0 : Int32) (by decide))) (qM_i hm1)))
  rintro S3 m3 ⟨em3, hm3⟩
  change S3 = pI (bM M) m3 at em3; subst em3
  exact r_some (qP_i (qI_i (eI (1 : Int32) (by decide))) (qM_i hm3))
def p_X2_dinner (S : zP) (a1 : Int) : Option (Int × zP) :=
(p_X2_isIn a1 1 60).bind fun v1 =>
if v1 = 0 then (some (((-1), S)))
else ((pald S 1 1450 7).bind fun v3 =>
p32 (v3 + a1) fun x1 =>
if 9999 < x1 then (some (((-1), S)))
else ((p_X2_arePassed S a1).bind fun (v4, S5) =>
if v4 = 0 then (some (((-1), S5)))
else (zlt (S5 0 24) fun v6 =>
some ((v6, S5)))))
set_option maxHeartbeats 4000000 in
theorem rf_X2_dinner {g : zGd} {M : Nat} {m0 : zMm} (hL : pLM g (zR m0) M) {m : zMm} (hm : pOk (bM M) m0 m) {pa1 : Int} {a1 : Int32} (ea1 : pa1 = a1.toInt) : pRf (qP qI (qM (bM M) m0)) (p_X2_dinner (pI (bM M) m) pa1) (f_X2_dinner g m (some ((bM M).1 + 0)) a1) := by
  subst ea1
  unfold p_X2_dinner f_X2_dinner
  refine r_bind (A := qI) (rf_X2_isIn rfl (eI (1 : Int32) (by decide)) (eI (60 : Int32) (by decide))) ?_
  rintro pv1 v1 ev1
  change pv1 = v1.toInt at ev1; subst ev1
  refine r_ite (pc_eq rfl (eI (0 : Int32) (by decide))) ?_ ?_
  · exact r_some (qP_i (qI_i (eI (-1 : Int32) (by decide))) (qM_i hm))
  · refine r_gr (d := 1) hm (lm_o hL) (lm_f0 hL) ?_
    refine r_ald (lm_k1 hL) (eI (7 : Int32) (by decide)) (fun _ => rfl) (fun v3 => ?_)
    refine r_p32 (px_add (px_v _) (px_v _)) ?_
    refine r_ite (pc_lt (eI (9999 : Int32) (by decide)) rfl) ?_ ?_
    · exact r_some (qP_i (qI_i (eI (-1 : Int32) (by decide))) (qM_i hm))
    · refine r_bind (A := (qP qI (qM (bM M) m0))) (r_rc (B := (bM M)) (c := 0) (lm_o hL) (rf_X2_arePassed hL hm rfl)) ?_
      rintro ⟨pv4, S5⟩ ⟨v4, m5⟩ ⟨ev4, ⟨em5, hm5⟩⟩
      change pv4 = v4.toInt at ev4; subst ev4
      change S5 = pI (bM M) m5 at em5; subst em5
      refine r_ite (pc_eq rfl (eI (0 : Int32) (by decide))) ?_ ?_
      · exact r_some (qP_i (qI_i (eI (-1 : Int32) (by decide))) (qM_i hm5))
      · refine r_gi (B := (bM M)) (c := 0) (i := 24) (lm_o hL) rfl rfl (fun v6 => ?_)
        exact r_some (qP_i (qI_i rfl) (qM_i hm5))
def p_X2_isPlayed (S : zP) (a1 : Int) : Option (Int × zP) :=
p32 (a1 + 1) fun x1 =>
(pald S 3 2724 x1).bind fun v2 =>
p32 (a1 + 2) fun x2 =>
(pald S 3 2724 x2).bind fun v4 =>
(pald S 3 2724 a1).bind fun v6 =>
if v6 = 2 then ((p_X2_kin S v2 v4).bind fun (v7, S8) =>
if v7 < 0 then (some ((0, S8)))
else (some ((1, S8))))
else (if v6 = 3 then ((p_X2_reach S v2).bind fun (v9, S10) =>
if v9 < 0 then (some ((0, S10)))
else (some ((1, S10))))
else (if v6 = 4 then ((p_X2_down S v2 v4).bind fun (v11, S12) =>
(pbo v11).bind fun z =>
some ((z, S12)))
else (if v6 = 5 then ((p_X2_strap S v2).bind fun (v13, S14) =>
(pbo v13).bind fun z =>
some ((z, S14)))
else (if v6 = 6 then ((p_X2_swap S v2 v4).bind fun (v15, S16) =>
(pbo v15).bind fun z =>
some ((z, S16)))
else (if v6 = 7 then ((p_X2_arePassed S v2).bind fun (v17, S18) =>
(pbo v17).bind fun z =>
some ((z, S18)))
else (some ((1, S))))))))
set_option maxHeartbeats 4000000 in
theorem rf_X2_isPlayed {g : zGd} {M : Nat} {m0 : zMm} (hL : pLM g (zR m0) M) {m : zMm} (hm : pOk (bM M) m0 m) {pa1 : Int} {a1 : Int32} (ea1 : pa1 = a1.toInt) : pRf (qP qI (qM (bM M) m0)) (p_X2_isPlayed (pI (bM M) m) pa1) (f_X2_isPlayed g m (some ((bM M).1 + 0)) a1) := by
  subst ea1
  unfold p_X2_isPlayed f_X2_isPlayed
  refine r_gr (d := 3) hm (lm_o hL) (lm_f2 hL) ?_
  refine r_p32 (px_add (px_v _) (px_n (1 : Int32) (by decide))) ?_
  refine r_ald (lm_k3 hL) rfl (fun _ => rfl) (fun v2 => ?_)
  refine r_gr (d := 3) hm (lm_o hL) (lm_f2 hL) ?_
  refine r_p32 (px_add (px_v _) (px_n (2 : Int32) (by decide))) ?_
  refine r_ald (lm_k3 hL) rfl (fun _ => rfl) (fun v4 => ?_)
  refine r_gr (d := 3) hm (lm_o hL) (lm_f2 hL) ?_
  refine r_ald (lm_k3 hL) rfl (fun _ => rfl) (fun v6 => ?_)
  refine r_ite (pc_eq rfl (eI (2 : Int32) (by decide))) ?_ ?_
  · refine r_bind (A := (qP qI (qM (bM M) m0))) (r_rc (B := (bM M)) (c := 0) (lm_o hL) (rf_X2_kin hL hm rfl rfl)) ?_
    rintro ⟨pv7, S8⟩ ⟨v7, m8⟩ ⟨ev7, ⟨em8, hm8⟩⟩
    change pv7 = v7.toInt at ev7; subst ev7
    change S8 = pI (bM M) m8 at em8; subst em8
    refine r_ite (pc_lt rfl (eI (0 : Int32) (by decide))) ?_ ?_
    · exact r_some (qP_i (qI_i (eI (0 : Int32) (by decide))) (qM_i hm8))
    · exact r_some (qP_i (qI_i (eI (1 : Int32) (by decide))) (qM_i hm8))
  · refine r_ite (pc_eq rfl (eI (3 : Int32) (by decide))) ?_ ?_
    · refine r_bind (A := (qP qI (qM (bM M) m0))) (r_rc (B := (bM M)) (c := 0) (lm_o hL) (rf_X2_reach hL hm rfl)) ?_
      rintro ⟨pv9, S10⟩ ⟨v9, m10⟩ ⟨ev9, ⟨em10, hm10⟩⟩
      change pv9 = v9.toInt at ev9; subst ev9
      change S10 = pI (bM M) m10 at em10; subst em10
      refine r_ite (pc_lt rfl (eI (0 : Int32) (by decide))) ?_ ?_
      · exact r_some (qP_i (qI_i (eI (0 : Int32) (by decide))) (qM_i hm10))
      · exact r_some (qP_i (qI_i (eI (1 : Int32) (by decide))) (qM_i hm10))
    · refine r_ite (pc_eq rfl (eI (4 : Int32) (by decide))) ?_ ?_
      · refine r_bind (A := (qP qI (qM (bM M) m0))) (r_rc (B := (bM M)) (c := 0) (lm_o hL) (rf_X2_down hL hm rfl rfl)) ?_
        rintro ⟨pv11, S12⟩ ⟨v11, m12⟩ ⟨ev11, ⟨em12, hm12⟩⟩
        change pv11 = v11.toInt at ev11; subst ev11
        change S12 = pI (bM M) m12 at em12; subst em12
        refine r_bo rfl (fun z => ?_)
        exact r_some (qP_i (qI_i rfl) (qM_i hm12))
      · refine r_ite (pc_eq rfl (eI (5 : Int32) (by decide))) ?_ ?_
        · refine r_bind (A := (qP qI (qM (bM M) m0))) (r_rc (B := (bM M)) (c := 0) (lm_o hL) (rf_X2_strap hL hm rfl)) ?_
          rintro ⟨pv13, S14⟩ ⟨v13, m14⟩ ⟨ev13, ⟨em14, hm14⟩⟩
          change pv13 = v13.toInt at ev13; subst ev13
          change S14 = pI (bM M) m14 at em14; subst em14
          refine r_bo rfl (fun z => ?_)
          exact r_some (qP_i (qI_i rfl) (qM_i hm14))
        · refine r_ite (pc_eq rfl (eI (6 : Int32) (by decide))) ?_ ?_
          · refine r_bind (A := (qP qI (qM (bM M) m0))) (r_rc (B := (bM M)) (c := 0) (lm_o hL) (rf_X2_swap hL hm rfl rfl)) ?_
            rintro ⟨pv15, S16⟩ ⟨v15, m16⟩ ⟨ev15, ⟨em16, hm16⟩⟩
            change pv15 = v15.toInt at ev15; subst ev15
            change S16 = pI (bM M) m16 at em16; subst em16
            refine r_bo rfl (fun z => ?_)
            exact r_some (qP_i (qI_i rfl) (qM_i hm16))
          · refine r_ite (pc_eq rfl (eI (7 : Int32) (by decide))) ?_ ?_
            · refine r_bind (A := (qP qI (qM (bM M) m0))) (r_rc (B := (bM M)) (c := 0) (lm_o hL) (rf_X2_arePassed hL hm rfl)) ?_
              rintro ⟨pv17, S18⟩ ⟨v17, m18⟩ ⟨ev17, ⟨em18, hm18⟩⟩
              change pv17 = v17.toInt at ev17; subst ev17
              change S18 = pI (bM M) m18 at em18; subst em18
              refine r_bo rfl (fun z => ?_)
              exact r_some (qP_i (qI_i rfl) (qM_i hm18))
            · exact r_some (qP_i (qI_i (eI (1 : Int32) (by decide))) (qM_i hm))
def pb_X2_played_21 (a1 : Int) : (Int × zP) → Option (((Int × zP) ⊕ zP) ⊕ (Int × zP)) := fun (v7, S8) =>
p32 (681 * a1) fun x1 =>
(pald S8 3 2724 x1).bind fun v10 =>
if v10 ≤ v7 then (some (.inl (.inr S8)))
else (p32 (((681 * a1) + 1) + (3 * v7)) fun x2 =>
(p_X2_isPlayed S8 x2).bind fun (v11, S12) =>
if v11 = 0 then (some (.inl (.inl (v7, S12))))
else (p32 (v7 + 1) fun v13 =>
some (.inr (v13, S12))))
set_option maxHeartbeats 4000000 in
theorem rb_X2_played_21 {g : zGd} {M : Nat} {m0 : zMm} (hL : pLM g (zR m0) M) {pa1 : Int} {a1 : Int32} (ea1 : pa1 = a1.toInt) : ∀ s t, (qP qI (qM (bM M) m0)) s t → pRf (qS (qS (qP qI (qM (bM M) m0)) (qM (bM M) m0)) (qP qI (qM (bM M) m0))) (pb_X2_played_21 pa1 s) (b_X2_played_21 g (some ((bM M).1 + 0)) a1 t) := by
  subst ea1
  rintro ⟨pv7, S8⟩ ⟨v7, m8⟩ ⟨ev7, ⟨em8, hm8⟩⟩
  change pv7 = v7.toInt at ev7; subst ev7
  change S8 = pI (bM M) m8 at em8; subst em8
  unfold pb_X2_played_21 b_X2_played_21
  try dsimp only
  refine r_gr (d := 3) hm8 (lm_o hL) (lm_f2 hL) ?_
  refine r_p32 (px_mul (px_n (681 : Int32) (by decide)) (px_v _)) ?_
  refine r_ald (lm_k3 hL) rfl (fun _ => rfl) (fun v10 => ?_)
  refine r_ite (pc_le rfl rfl) ?_ ?_
  · exact r_some (qS_l (qS_r (qM_i hm8)))
  · refine r_p32 (px_add (px_add (px_mul (px_n (681 : Int32) (by decide)) (px_v _)) (px_n (1 : Int32) (by decide))) (px_mul (px_n (3 : Int32) (by decide)) (px_v _))) ?_
    refine r_bind (A := (qP qI (qM (bM M) m0))) (r_rc (B := (bM M)) (c := 0) (lm_o hL) (rf_X2_isPlayed hL hm8 rfl)) ?_
    rintro ⟨pv11, S12⟩ ⟨v11, m12⟩ ⟨ev11, ⟨em12, hm12⟩⟩
    change pv11 = v11.toInt at ev11; subst ev11
    change S12 = pI (bM M) m12 at em12; subst em12
    refine r_ite (pc_eq rfl (eI (0 : Int32) (by decide))) ?_ ?_
    · exact r_some (qS_l (qS_l (qP_i (qI_i rfl) (qM_i hm12))))
    · refine r_lt32 (px_add (px_v _) (px_n (1 : Int32) (by decide))) (fun v13 => ?_)
      exact r_some (qS_r (qP_i (qI_i rfl) (qM_i hm12)))
def p_X2_played (S : zP) (a1 : Int) : Option (Int × zP) :=
(pald S 1 1450 1).bind fun v2 =>
p32 (v2 - 1) fun x1 =>
(p_X2_isIn a1 0 x1).bind fun v3 =>
if v3 = 0 then (some (((-2), S)))
else (zEx (σ := zP) (zLoop (pb_X2_played_21 a1) zFuel (0, S)) fun S5 =>
some (((-1), S5)))
set_option maxHeartbeats 4000000 in
theorem rf_X2_played {g : zGd} {M : Nat} {m0 : zMm} (hL : pLM g (zR m0) M) {m : zMm} (hm : pOk (bM M) m0 m) {pa1 : Int} {a1 : Int32} (ea1 : pa1 = a1.toInt) : pRf (qP qI (qM (bM M) m0)) (p_X2_played (pI (bM M) m) pa1) (f_X2_played g m (some ((bM M).1 + 0)) a1) := by
  subst ea1
  unfold p_X2_played f_X2_played
  refine r_gr (d := 1) hm (lm_o hL) (lm_f0 hL) ?_
  refine r_ald (lm_k1 hL) (eI (1 : Int32) (by decide)) (fun _ => rfl) (fun v2 => ?_)
  refine r_p32 (px_sub (px_v _) (px_n (1 : Int32) (by decide))) ?_
  refine r_bind (A := qI) (rf_X2_isIn rfl (eI (0 : Int32) (by decide)) rfl) ?_
  rintro pv3 v3 ev3
  change pv3 = v3.toInt at ev3; subst ev3
  refine r_ite (pc_eq rfl (eI (0 : Int32) (by decide))) ?_ ?_
  · exact r_some (qP_i (qI_i (eI (-2 : Int32) (by decide))) (qM_i hm))
  · refine r_ex (Q := (qP qI (qM (bM M) m0))) (R := (qM (bM M) m0)) ?_ ?_
    · exact (r_loop (rb_X2_played_21 hL rfl) zFuel _ _ (qP_i (qI_i (eI (0 : Int32) (by decide))) (qM_i hm)))
    rintro S5 m5 ⟨em5, hm5⟩
    change S5 = pI (bM M) m5 at em5; subst em5
    exact r_some (qP_i (qI_i (eI (-1 : Int32) (by decide))) (qM_i hm5))
def p_X2_happensTo (S : zP) (a1 : Int) (a2 : Int) : Option zP :=
zlt (prm a2 6) fun x1 =>
if x1 = 0 then ((p_X2_isStrapped S a1).bind fun v1 =>
if v1 = 0 then ((p_X2_more S a1).bind fun S2 =>
some (S2))
else (some (S)))
else (if x1 = 1 then (p32 (1 + (prm a2 3)) fun x2 =>
(p_X2_canDown S a1 x2).bind fun v3 =>
if v3 = 0 then (some (S))
else (p32 (11 + a1) fun v5 =>
(pald S 1 1450 v5).bind fun v6 =>
p32 (v6 - (1 + (prm a2 3))) fun x3 =>
(past S 1 1450 v5 x3).bind fun S7 =>
some (S7)))
else (if x1 = 2 then (zlt (prm a2 4) fun x4 =>
if x4 = 2 then ((pald S 1 1450 0).bind fun v9 =>
if v9 ≤ 1 then (some (S))
else ((pald S 1 1450 0).bind fun v11 =>
p32 (a1 + 1) fun x5 =>
(pmod x5 v11).bind fun v12 =>
(p_X2_swapNow S a1 v12).bind fun S13 =>
some (S13)))
else (some (S)))
else (zlt (prm a2 4) fun x6 =>
if x6 = 1 then ((pald S 1 1450 10).bind fun v15 =>
zlt (pshl 1 a1) fun x7 =>
zlt (pxor v15 x7) fun x8 =>
(past S 1 1450 10 x8).bind fun S16 =>
some (S16))
else (some (S)))))
set_option maxHeartbeats 4000000 in
theorem rf_X2_happensTo {g : zGd} {M : Nat} {m0 : zMm} (hL : pLM g (zR m0) M) {m : zMm} (hm : pOk (bM M) m0 m) {pa1 : Int} {a1 : Int32} (ea1 : pa1 = a1.toInt) {pa2 : Int} {a2 : Int32} (ea2 : pa2 = a2.toInt) : pRf (qM (bM M) m0) (p_X2_happensTo (pI (bM M) m) pa1 pa2) (f_X2_happensTo g m (some ((bM M).1 + 0)) a1 a2) := by
  subst ea1
  subst ea2
  unfold p_X2_happensTo f_X2_happensTo
  refine r_x32 (pe_rm (by decide) rfl (eI (6 : Int32) (by decide))) ?_
  refine r_ite (pc_eq rfl (eI (0 : Int32) (by decide))) ?_ ?_
  · refine r_bind (A := qI) (r_rc (B := (bM M)) (c := 0) (lm_o hL) (rf_X2_isStrapped hL hm rfl)) ?_
    rintro pv1 v1 ev1
    change pv1 = v1.toInt at ev1; subst ev1
    refine r_ite (pc_eq rfl (eI (0 : Int32) (by decide))) ?_ ?_
    · refine r_bind (A := (qM (bM M) m0)) (r_rc (B := (bM M)) (c := 0) (lm_o hL) (rf_X2_more hL hm rfl)) ?_
      rintro S2 m2 ⟨em2, hm2⟩
      change S2 = pI (bM M) m2 at em2; subst em2
      exact r_some (qM_i hm2)
    · exact r_some (qM_i hm)
  · refine r_ite (pc_eq rfl (eI (1 : Int32) (by decide))) ?_ ?_
    · refine r_p32 (px_add (px_n (1 : Int32) (by decide)) (px_e (pe_rm (by decide) rfl (eI (3 : Int32) (by decide))))) ?_
      refine r_bind (A := qI) (r_rc (B := (bM M)) (c := 0) (lm_o hL) (rf_X2_canDown hL hm rfl rfl)) ?_
      rintro pv3 v3 ev3
      change pv3 = v3.toInt at ev3; subst ev3
      refine r_ite (pc_eq rfl (eI (0 : Int32) (by decide))) ?_ ?_
      · exact r_some (qM_i hm)
      · refine r_gr (d := 1) hm (lm_o hL) (lm_f0 hL) ?_
        refine r_lt32 (px_add (px_n (11 : Int32) (by decide)) (px_v _)) (fun v5 => ?_)
        refine r_ald (lm_k1 hL) rfl (fun _ => rfl) (fun v6 => ?_)
        refine r_p32 (px_sub (px_v _) (px_add (px_n (1 : Int32) (by decide)) (px_e (pe_rm (by decide) rfl (eI (3 : Int32) (by decide)))))) ?_
        refine r_ast hm (lm_k1 hL) hL.1 (wM (by omega)) rfl rfl (fun _ => rfl) (fun m7 hm7 => ?_)
        exact r_some (qM_i hm7)
    · refine r_ite (pc_eq rfl (eI (2 : Int32) (by decide))) ?_ ?_
      · refine r_x32 (pe_rm (by decide) rfl (eI (4 : Int32) (by decide))) ?_
        refine r_ite (pc_eq rfl (eI (2 : Int32) (by decide))) ?_ ?_
        · refine r_gr (d := 1) hm (lm_o hL) (lm_f0 hL) ?_
          refine r_ald (lm_k1 hL) (eI (0 : Int32) (by decide)) (fun _ => rfl) (fun v9 => ?_)
          refine r_ite (pc_le rfl (eI (1 : Int32) (by decide))) ?_ ?_
          · exact r_some (qM_i hm)
          · refine r_gr (d := 1) hm (lm_o hL) (lm_f0 hL) ?_
            refine r_ald (lm_k1 hL) (eI (0 : Int32) (by decide)) (fun _ => rfl) (fun v11 => ?_)
            refine r_p32 (px_add (px_v _) (px_n (1 : Int32) (by decide))) ?_
            refine r_mod rfl rfl (fun v12 => ?_)
            refine r_bind (A := (qM (bM M) m0)) (r_rc (B := (bM M)) (c := 0) (lm_o hL) (rf_X2_swapNow hL hm rfl rfl)) ?_
            rintro S13 m13 ⟨em13, hm13⟩
            change S13 = pI (bM M) m13 at em13; subst em13
            exact r_some (qM_i hm13)
        · exact r_some (qM_i hm)
      · refine r_x32 (pe_rm (by decide) rfl (eI (4 : Int32) (by decide))) ?_
        refine r_ite (pc_eq rfl (eI (1 : Int32) (by decide))) ?_ ?_
        · refine r_gr (d := 1) hm (lm_o hL) (lm_f0 hL) ?_
          refine r_ald (lm_k1 hL) (eI (10 : Int32) (by decide)) (fun _ => rfl) (fun v15 => ?_)
          refine r_x32 (pe_shl (eI (1 : Int32) (by decide)) rfl) ?_
          refine r_x32 (pe_xor rfl rfl) ?_
          refine r_ast hm (lm_k1 hL) hL.1 (wM (by omega)) (eI (10 : Int32) (by decide)) rfl (fun _ => rfl) (fun m16 hm16 => ?_)
          exact r_some (qM_i hm16)
        · exact r_some (qM_i hm)
def pb_X2_years_43 (a2 : Int) : (Int × zP) → Option (zP ⊕ (Int × zP)) := fun (v9, S10) =>
if a2 ≤ v9 then (some (.inl S10))
else ((pald S10 1 1450 8).bind fun v12 =>
(p_X2_anew S10).bind fun S13 =>
((zlt (prm v12 6) fun x1 =>
if 4 ≤ x1 then (some (S13))
else ((pald S13 1 1450 0).bind fun v17 =>
if v17 ≤ 0 then (some (S13))
else ((pald S13 1 1450 0).bind fun v19 =>
zlt (pdv v12 6) fun x2 =>
(pmod x2 v19).bind fun v20 =>
(p_X2_happensTo S13 v20 v12).bind fun S21 =>
some (S21))) : Option zP)).bind fun S15 =>
zlt (prm v12 6) fun x3 =>
if x3 ≤ 3 then (p32 (v9 + 1) fun v22 =>
some (.inr (v22, S15)))
else ((pald S15 1 1450 7).bind fun v24 =>
if 9999 ≤ v24 then (p32 (v9 + 1) fun v25 =>
some (.inr (v25, S15)))
else ((p_X2_pass S15).bind fun S26 =>
p32 (v9 + 1) fun v27 =>
some (.inr (v27, S26)))))
set_option maxHeartbeats 4000000 in
theorem rb_X2_years_43 {g : zGd} {M : Nat} {m0 : zMm} (hL : pLM g (zR m0) M) {pa2 : Int} {a2 : Int32} (ea2 : pa2 = a2.toInt) : ∀ s t, (qP qI (qM (bM M) m0)) s t → pRf (qS (qM (bM M) m0) (qP qI (qM (bM M) m0))) (pb_X2_years_43 pa2 s) (b_X2_years_43 g (some ((bM M).1 + 0)) a2 t) := by
  subst ea2
  rintro ⟨pv9, S10⟩ ⟨v9, m10⟩ ⟨ev9, ⟨em10, hm10⟩⟩
  change pv9 = v9.toInt at ev9; subst ev9
  change S10 = pI (bM M) m10 at em10; subst em10
  unfold pb_X2_years_43 b_X2_years_43
  try dsimp only
  refine r_ite (pc_le rfl rfl) ?_ ?_
  · exact r_some (qS_l (qM_i hm10))
  · refine r_gr (d := 1) hm10 (lm_o hL) (lm_f0 hL) ?_
    refine r_ald (lm_k1 hL) (eI (8 : Int32) (by decide)) (fun _ => rfl) (fun v12 => ?_)
    refine r_bind (A := (qM (bM M) m0)) (r_rc (B := (bM M)) (c := 0) (lm_o hL) (rf_X2_anew hL hm10)) ?_
    rintro S13 m13 ⟨em13, hm13⟩
    change S13 = pI (bM M) m13 at em13; subst em13
    refine r_bind (A := (qM (bM M) m0)) ?_ ?_
    · refine r_x32 (pe_rm (by decide) rfl (eI (6 : Int32) (by decide))) ?_
      refine r_ite (pc_le (eI (4 : Int32) (by decide)) rfl) ?_ ?_
      · exact r_some (qM_i hm13)
      · refine r_gr (d := 1) hm13 (lm_o hL) (lm_f0 hL) ?_
        refine r_ald (lm_k1 hL) (eI (0 : Int32) (by decide)) (fun _ => rfl) (fun v17 => ?_)
        refine r_ite (pc_le rfl (eI (0 : Int32) (by decide))) ?_ ?_
        · exact r_some (qM_i hm13)
        · refine r_gr (d := 1) hm13 (lm_o hL) (lm_f0 hL) ?_
          refine r_ald (lm_k1 hL) (eI (0 : Int32) (by decide)) (fun _ => rfl) (fun v19 => ?_)
          refine r_x32 (pe_dv (by decide) rfl (eI (6 : Int32) (by decide))) ?_
          refine r_mod rfl rfl (fun v20 => ?_)
          refine r_bind (A := (qM (bM M) m0)) (r_rc (B := (bM M)) (c := 0) (lm_o hL) (rf_X2_happensTo hL hm13 rfl rfl)) ?_
          rintro S21 m21 ⟨em21, hm21⟩
          change S21 = pI (bM M) m21 at em21; subst em21
          exact r_some (qM_i hm21)
    rintro S15 m15 ⟨em15, hm15⟩
    change S15 = pI (bM M) m15 at em15; subst em15
    refine r_x32 (pe_rm (by decide) rfl (eI (6 : Int32) (by decide))) ?_
    refine r_ite (pc_le rfl (eI (3 : Int32) (by decide))) ?_ ?_
    · refine r_lt32 (px_add (px_v _) (px_n (1 : Int32) (by decide))) (fun v22 => ?_)
      exact r_some (qS_r (qP_i (qI_i rfl) (qM_i hm15)))
    · refine r_gr (d := 1) hm15 (lm_o hL) (lm_f0 hL) ?_
      refine r_ald (lm_k1 hL) (eI (7 : Int32) (by decide)) (fun _ => rfl) (fun v24 => ?_)
      refine r_ite (pc_le (eI (9999 : Int32) (by decide)) rfl) ?_ ?_
      · refine r_lt32 (px_add (px_v _) (px_n (1 : Int32) (by decide))) (fun v25 => ?_)
        exact r_some (qS_r (qP_i (qI_i rfl) (qM_i hm15)))
      · refine r_bind (A := (qM (bM M) m0)) (r_rc (B := (bM M)) (c := 0) (lm_o hL) (rf_X2_pass hL hm15)) ?_
        rintro S26 m26 ⟨em26, hm26⟩
        change S26 = pI (bM M) m26 at em26; subst em26
        refine r_lt32 (px_add (px_v _) (px_n (1 : Int32) (by decide))) (fun v27 => ?_)
        exact r_some (qS_r (qP_i (qI_i rfl) (qM_i hm26)))
def p_X2_years (S : zP) (a1 : Int) (a2 : Int) : Option (Int × zP) :=
(p_X2_isIn a1 0 9999).bind fun v1 =>
if v1 = 0 then (some (((-1), S)))
else ((p_X2_isIn a2 1 40).bind fun v2 =>
if v2 = 0 then (some (((-1), S)))
else ((p_X2_keep S).bind fun S3 =>
p32 ((a1 * 2) + 421) fun x1 =>
(past S3 1 1450 8 x1).bind fun S5 =>
(zLoop (pb_X2_years_43 a2) zFuel (0, S5)).bind fun S7 =>
(pald S7 1 1450 7).bind fun v29 =>
some ((v29, S7))))
set_option maxHeartbeats 4000000 in
theorem rf_X2_years {g : zGd} {M : Nat} {m0 : zMm} (hL : pLM g (zR m0) M) {m : zMm} (hm : pOk (bM M) m0 m) {pa1 : Int} {a1 : Int32} (ea1 : pa1 = a1.toInt) {pa2 : Int} {a2 : Int32} (ea2 : pa2 = a2.toInt) : pRf (qP qI (qM (bM M) m0)) (p_X2_years (pI (bM M) m) pa1 pa2) (f_X2_years g m (some ((bM M).1 + 0)) a1 a2) := by
  subst ea1
  subst ea2
  unfold p_X2_years f_X2_years
  refine r_bind (A := qI) (rf_X2_isIn rfl (eI (0 : Int32) (by decide)) (eI (9999 : Int32) (by decide))) ?_
  rintro pv1 v1 ev1
  change pv1 = v1.toInt at ev1; subst ev1
  refine r_ite (pc_eq rfl (eI (0 : Int32) (by decide))) ?_ ?_
  · exact r_some (qP_i (qI_i (eI (-1 : Int32) (by decide))) (qM_i hm))
  · refine r_bind (A := qI) (rf_X2_isIn rfl (eI (1 : Int32) (by decide)) (eI (40 : Int32) (by decide))) ?_
    rintro pv2 v2 ev2
    change pv2 = v2.toInt at ev2; subst ev2
    refine r_ite (pc_eq rfl (eI (0 : Int32) (by decide))) ?_ ?_
    · exact r_some (qP_i (qI_i (eI (-1 : Int32) (by decide))) (qM_i hm))
    · refine r_bind (A := (qM (bM M) m0)) (r_rc (B := (bM M)) (c := 0) (lm_o hL) (rf_X2_keep hL hm)) ?_
      rintro S3 m3 ⟨em3, hm3⟩
      change S3 = pI (bM M) m3 at em3; subst em3
      refine r_gr (d := 1) hm3 (lm_o hL) (lm_f0 hL) ?_
      refine r_p32 (px_add (px_mul (px_v _) (px_n (2 : Int32) (by decide))) (px_n (421 : Int32) (by decide))) ?_
      refine r_ast hm3 (lm_k1 hL) hL.1 (wM (by omega)) (eI (8 : Int32) (by decide)) rfl (fun _ => rfl) (fun m5 hm5 => ?_)
      refine r_bind (A := (qM (bM M) m0)) (r_loop (rb_X2_years_43 hL rfl) zFuel _ _ (qP_i (qI_i (eI (0 : Int32) (by decide))) (qM_i hm5))) ?_
      rintro S7 m7 ⟨em7, hm7⟩
      change S7 = pI (bM M) m7 at em7; subst em7
      refine r_gr (d := 1) hm7 (lm_o hL) (lm_f0 hL) ?_
      refine r_ald (lm_k1 hL) (eI (7 : Int32) (by decide)) (fun _ => rfl) (fun v29 => ?_)
      exact r_some (qP_i (qI_i rfl) (qM_i hm7))
def p_X2_of (S : zP) (a1 : Int) (a2 : Int) : Option (Int × zP) :=
(p_X2_isKin S a1).bind fun v1 =>
if v1 = 0 then (some (((-1), S)))
else (if a2 = 0 then (p32 (23 + a1) fun x1 =>
(pald S 1 1450 x1).bind fun v3 =>
some ((v3, S)))
else (if a2 = 1 then (p32 (11 + a1) fun x2 =>
(pald S 1 1450 x2).bind fun v5 =>
some ((v5, S)))
else (if a2 = 2 then (p32 (17 + a1) fun x3 =>
(pald S 1 1450 x3).bind fun v7 =>
some ((v7, S)))
else (if a2 = 3 then ((p_X2_isStrapped S a1).bind fun v8 =>
if v8 = 0 then (some ((0, S)))
else (some ((1, S))))
else (if a2 = 4 then ((pald S 1 1450 2).bind fun v10 =>
(p_X2_reachesOf S v10 a1).bind fun (v11, S12) =>
some ((v11, S12)))
else (if a2 = 5 then ((p_X2_bearsOf S a1).bind fun (v13, S14) =>
some ((v13, S14)))
else (if a2 = 6 then ((p_X2_acrossOf S a1).bind fun v15 =>
some ((v15, S)))
else (some (((-1), S))))))))))
set_option maxHeartbeats 4000000 in
theorem rf_X2_of {g : zGd} {M : Nat} {m0 : zMm} (hL : pLM g (zR m0) M) {m : zMm} (hm : pOk (bM M) m0 m) {pa1 : Int} {a1 : Int32} (ea1 : pa1 = a1.toInt) {pa2 : Int} {a2 : Int32} (ea2 : pa2 = a2.toInt) : pRf (qP qI (qM (bM M) m0)) (p_X2_of (pI (bM M) m) pa1 pa2) (f_X2_of g m (some ((bM M).1 + 0)) a1 a2) := by
  subst ea1
  subst ea2
  unfold p_X2_of f_X2_of
  refine r_bind (A := qI) (r_rc (B := (bM M)) (c := 0) (lm_o hL) (rf_X2_isKin hL hm rfl)) ?_
  rintro pv1 v1 ev1
  change pv1 = v1.toInt at ev1; subst ev1
  refine r_ite (pc_eq rfl (eI (0 : Int32) (by decide))) ?_ ?_
  · exact r_some (qP_i (qI_i (eI (-1 : Int32) (by decide))) (qM_i hm))
  · refine r_ite (pc_eq rfl (eI (0 : Int32) (by decide))) ?_ ?_
    · refine r_gr (d := 1) hm (lm_o hL) (lm_f0 hL) ?_
      refine r_p32 (px_add (px_n (23 : Int32) (by decide)) (px_v _)) ?_
      refine r_ald (lm_k1 hL) rfl (fun _ => rfl) (fun v3 => ?_)
      exact r_some (qP_i (qI_i rfl) (qM_i hm))
    · refine r_ite (pc_eq rfl (eI (1 : Int32) (by decide))) ?_ ?_
      · refine r_gr (d := 1) hm (lm_o hL) (lm_f0 hL) ?_
        refine r_p32 (px_add (px_n (11 : Int32) (by decide)) (px_v _)) ?_
        refine r_ald (lm_k1 hL) rfl (fun _ => rfl) (fun v5 => ?_)
        exact r_some (qP_i (qI_i rfl) (qM_i hm))
      · refine r_ite (pc_eq rfl (eI (2 : Int32) (by decide))) ?_ ?_
        · refine r_gr (d := 1) hm (lm_o hL) (lm_f0 hL) ?_
          refine r_p32 (px_add (px_n (17 : Int32) (by decide)) (px_v _)) ?_
          refine r_ald (lm_k1 hL) rfl (fun _ => rfl) (fun v7 => ?_)
          exact r_some (qP_i (qI_i rfl) (qM_i hm))
        · refine r_ite (pc_eq rfl (eI (3 : Int32) (by decide))) ?_ ?_
          · refine r_bind (A := qI) (r_rc (B := (bM M)) (c := 0) (lm_o hL) (rf_X2_isStrapped hL hm rfl)) ?_
            rintro pv8 v8 ev8
            change pv8 = v8.toInt at ev8; subst ev8
            refine r_ite (pc_eq rfl (eI (0 : Int32) (by decide))) ?_ ?_
            · exact r_some (qP_i (qI_i (eI (0 : Int32) (by decide))) (qM_i hm))
            · exact r_some (qP_i (qI_i (eI (1 : Int32) (by decide))) (qM_i hm))
          · refine r_ite (pc_eq rfl (eI (4 : Int32) (by decide))) ?_ ?_
            · refine r_gr (d := 1) hm (lm_o hL) (lm_f0 hL) ?_
              refine r_ald (lm_k1 hL) (eI (2 : Int32) (by decide)) (fun _ => rfl) (fun v10 => ?_)
              refine r_bind (A := (qP qI (qM (bM M) m0))) (r_rc (B := (bM M)) (c := 0) (lm_o hL) (rf_X2_reachesOf hL hm rfl rfl)) ?_
              rintro ⟨pv11, S12⟩ ⟨v11, m12⟩ ⟨ev11, ⟨em12, hm12⟩⟩
              change pv11 = v11.toInt at ev11; subst ev11
              change S12 = pI (bM M) m12 at em12; subst em12
              exact r_some (qP_i (qI_i rfl) (qM_i hm12))
            · refine r_ite (pc_eq rfl (eI (5 : Int32) (by decide))) ?_ ?_
              · refine r_bind (A := (qP qI (qM (bM M) m0))) (r_rc (B := (bM M)) (c := 0) (lm_o hL) (rf_X2_bearsOf hL hm rfl)) ?_
                rintro ⟨pv13, S14⟩ ⟨v13, m14⟩ ⟨ev13, ⟨em14, hm14⟩⟩
                change pv13 = v13.toInt at ev13; subst ev13
                change S14 = pI (bM M) m14 at em14; subst em14
                exact r_some (qP_i (qI_i rfl) (qM_i hm14))
              · refine r_ite (pc_eq rfl (eI (6 : Int32) (by decide))) ?_ ?_
                · refine r_bind (A := qI) (r_rc (B := (bM M)) (c := 0) (lm_o hL) (rf_X2_acrossOf hL hm rfl)) ?_
                  rintro pv15 v15 ev15
                  change pv15 = v15.toInt at ev15; subst ev15
                  exact r_some (qP_i (qI_i rfl) (qM_i hm))
                · exact r_some (qP_i (qI_i (eI (-1 : Int32) (by decide))) (qM_i hm))
def p_X2_at (S : zP) (a1 : Int) : Option Int :=
(p_X2_isKin S a1).bind fun v1 =>
if v1 = 0 then (some ((-1)))
else ((p_X2_whoAt S a1).bind fun v2 =>
some (v2))
set_option maxHeartbeats 4000000 in
theorem rf_X2_at {g : zGd} {M : Nat} {m0 : zMm} (hL : pLM g (zR m0) M) {m : zMm} (hm : pOk (bM M) m0 m) {pa1 : Int} {a1 : Int32} (ea1 : pa1 = a1.toInt) : pRf qI (p_X2_at (pI (bM M) m) pa1) (f_X2_at g m (some ((bM M).1 + 0)) a1) := by
  subst ea1
  unfold p_X2_at f_X2_at
  refine r_bind (A := qI) (r_rc (B := (bM M)) (c := 0) (lm_o hL) (rf_X2_isKin hL hm rfl)) ?_
  rintro pv1 v1 ev1
  change pv1 = v1.toInt at ev1; subst ev1
  refine r_ite (pc_eq rfl (eI (0 : Int32) (by decide))) ?_ ?_
  · exact r_some (qI_i (eI (-1 : Int32) (by decide)))
  · refine r_bind (A := qI) (r_rc (B := (bM M)) (c := 0) (lm_o hL) (rf_X2_whoAt hL hm rfl)) ?_
    rintro pv2 v2 ev2
    change pv2 = v2.toInt at ev2; subst ev2
    exact r_some (qI_i rfl)
def pb_X2_is_23 (S : zP) : (Int × Int) → Option (Int ⊕ (Int × Int)) := fun (v5, v6) =>
(pald S 1 1450 0).bind fun v8 =>
if v8 ≤ v6 then (some (.inl v5))
else (p32 (11 + v6) fun x1 =>
(pald S 1 1450 x1).bind fun v10 =>
p32 (v5 + v10) fun v11 =>
p32 (v6 + 1) fun v12 =>
some (.inr (v11, v12)))
set_option maxHeartbeats 4000000 in
theorem rb_X2_is_23 {g : zGd} {M : Nat} {m0 : zMm} (hL : pLM g (zR m0) M) {m : zMm} (hm : pOk (bM M) m0 m) : ∀ s t, (qP qI qI) s t → pRf (qS qI (qP qI qI)) (pb_X2_is_23 (pI (bM M) m) s) (b_X2_is_23 g m (some ((bM M).1 + 0)) t) := by
  rintro ⟨pv5, pv6⟩ ⟨v5, v6⟩ ⟨ev5, ev6⟩
  change pv5 = v5.toInt at ev5; subst ev5
  change pv6 = v6.toInt at ev6; subst ev6
  unfold pb_X2_is_23 b_X2_is_23
  try dsimp only
  refine r_gr (d := 1) hm (lm_o hL) (lm_f0 hL) ?_
  refine r_ald (lm_k1 hL) (eI (0 : Int32) (by decide)) (fun _ => rfl) (fun v8 => ?_)
  refine r_ite (pc_le rfl rfl) ?_ ?_
  · exact r_some (qS_l (qI_i rfl))
  · refine r_gr (d := 1) hm (lm_o hL) (lm_f0 hL) ?_
    refine r_p32 (px_add (px_n (11 : Int32) (by decide)) (px_v _)) ?_
    refine r_ald (lm_k1 hL) rfl (fun _ => rfl) (fun v10 => ?_)
    refine r_lt32 (px_add (px_v _) (px_v _)) (fun v11 => ?_)
    refine r_lt32 (px_add (px_v _) (px_n (1 : Int32) (by decide))) (fun v12 => ?_)
    exact r_some (qS_r (qP_i (qI_i rfl) (qI_i rfl)))
def p_X2_is (S : zP) (a1 : Int) : Option Int :=
(p_X2_isIn a1 0 1).bind fun v1 =>
if v1 = 0 then ((zLoop (pb_X2_is_23 S) zFuel (0, 0)).bind fun v3 =>
if a1 = 2 then (some (v3))
else (if a1 = 3 then ((pald S 1 1450 10).bind fun v14 =>
some (v14))
else (some ((-2)))))
else (p32 (7 + a1) fun x1 =>
(pald S 1 1450 x1).bind fun v16 =>
some (v16))
set_option maxHeartbeats 4000000 in
theorem rf_X2_is {g : zGd} {M : Nat} {m0 : zMm} (hL : pLM g (zR m0) M) {m : zMm} (hm : pOk (bM M) m0 m) {pa1 : Int} {a1 : Int32} (ea1 : pa1 = a1.toInt) : pRf qI (p_X2_is (pI (bM M) m) pa1) (f_X2_is g m (some ((bM M).1 + 0)) a1) := by
  subst ea1
  unfold p_X2_is f_X2_is
  refine r_bind (A := qI) (rf_X2_isIn rfl (eI (0 : Int32) (by decide)) (eI (1 : Int32) (by decide))) ?_
  rintro pv1 v1 ev1
  change pv1 = v1.toInt at ev1; subst ev1
  refine r_ite (pc_eq rfl (eI (0 : Int32) (by decide))) ?_ ?_
  · refine r_bind (A := qI) (r_loop (rb_X2_is_23 hL hm) zFuel _ _ (qP_i (qI_i (eI (0 : Int32) (by decide))) (qI_i (eI (0 : Int32) (by decide))))) ?_
    rintro pv3 v3 ev3
    change pv3 = v3.toInt at ev3; subst ev3
    refine r_ite (pc_eq rfl (eI (2 : Int32) (by decide))) ?_ ?_
    · exact r_some (qI_i rfl)
    · refine r_ite (pc_eq rfl (eI (3 : Int32) (by decide))) ?_ ?_
      · refine r_gr (d := 1) hm (lm_o hL) (lm_f0 hL) ?_
        refine r_ald (lm_k1 hL) (eI (10 : Int32) (by decide)) (fun _ => rfl) (fun v14 => ?_)
        exact r_some (qI_i rfl)
      · exact r_some (qI_i (eI (-2 : Int32) (by decide)))
  · refine r_gr (d := 1) hm (lm_o hL) (lm_f0 hL) ?_
    refine r_p32 (px_add (px_n (7 : Int32) (by decide)) (px_v _)) ?_
    refine r_ald (lm_k1 hL) rfl (fun _ => rfl) (fun v16 => ?_)
    exact r_some (qI_i rfl)
def p_X2_lineOf (S : zP) (a1 : Int) (a2 : Int) : Option Int :=
p32 (1425 + a1) fun x1 =>
(pald S 1 1450 x1).bind fun v2 =>
if a2 = 0 then (zlt (pdv v2 2688) fun x2 =>
some (x2))
else (if a2 = 1 then (zlt (pdv v2 448) fun x3 =>
zlt (prm x3 6) fun x4 =>
some (x4))
else (if a2 = 2 then (zlt (pdv v2 7) fun x5 =>
zlt (prm x5 64) fun x6 =>
some (x6))
else (p32 ((prm v2 7) - 1) fun x7 =>
some (x7))))
set_option maxHeartbeats 4000000 in
theorem rf_X2_lineOf {g : zGd} {M : Nat} {m0 : zMm} (hL : pLM g (zR m0) M) {m : zMm} (hm : pOk (bM M) m0 m) {pa1 : Int} {a1 : Int32} (ea1 : pa1 = a1.toInt) {pa2 : Int} {a2 : Int32} (ea2 : pa2 = a2.toInt) : pRf qI (p_X2_lineOf (pI (bM M) m) pa1 pa2) (f_X2_lineOf g m (some ((bM M).1 + 0)) a1 a2) := by
  subst ea1
  subst ea2
  unfold p_X2_lineOf f_X2_lineOf
  refine r_gr (d := 1) hm (lm_o hL) (lm_f0 hL) ?_
  refine r_p32 (px_add (px_n (1425 : Int32) (by decide)) (px_v _)) ?_
  refine r_ald (lm_k1 hL) rfl (fun _ => rfl) (fun v2 => ?_)
  refine r_ite (pc_eq rfl (eI (0 : Int32) (by decide))) ?_ ?_
  · refine r_x32 (pe_dv (by decide) rfl (eI (2688 : Int32) (by decide))) ?_
    exact r_some (qI_i rfl)
  · refine r_ite (pc_eq rfl (eI (1 : Int32) (by decide))) ?_ ?_
    · refine r_x32 (pe_dv (by decide) rfl (eI (448 : Int32) (by decide))) ?_
      refine r_x32 (pe_rm (by decide) rfl (eI (6 : Int32) (by decide))) ?_
      exact r_some (qI_i rfl)
    · refine r_ite (pc_eq rfl (eI (2 : Int32) (by decide))) ?_ ?_
      · refine r_x32 (pe_dv (by decide) rfl (eI (7 : Int32) (by decide))) ?_
        refine r_x32 (pe_rm (by decide) rfl (eI (64 : Int32) (by decide))) ?_
        exact r_some (qI_i rfl)
      · refine r_p32 (px_sub (px_e (pe_rm (by decide) rfl (eI (7 : Int32) (by decide)))) (px_n (1 : Int32) (by decide))) ?_
        exact r_some (qI_i rfl)
def p_X2_book (S : zP) (a1 : Int) (a2 : Int) : Option Int :=
if a1 = (-1) then ((pald S 1 1450 9).bind fun v7 =>
some (v7))
else ((pald S 1 1450 9).bind fun v2 =>
p32 (v2 - 1) fun x1 =>
(p_X2_isIn a1 0 x1).bind fun v3 =>
if v3 = 0 then (some ((-2)))
else ((p_X2_isIn a2 0 3).bind fun v4 =>
if v4 = 0 then (some ((-2)))
else ((p_X2_lineOf S a1 a2).bind fun v5 =>
some (v5))))
set_option maxHeartbeats 4000000 in
theorem rf_X2_book {g : zGd} {M : Nat} {m0 : zMm} (hL : pLM g (zR m0) M) {m : zMm} (hm : pOk (bM M) m0 m) {pa1 : Int} {a1 : Int32} (ea1 : pa1 = a1.toInt) {pa2 : Int} {a2 : Int32} (ea2 : pa2 = a2.toInt) : pRf qI (p_X2_book (pI (bM M) m) pa1 pa2) (f_X2_book g m (some ((bM M).1 + 0)) a1 a2) := by
  subst ea1
  subst ea2
  unfold p_X2_book f_X2_book
  refine r_ite (pc_eq rfl (eI (-1 : Int32) (by decide))) ?_ ?_
  · refine r_gr (d := 1) hm (lm_o hL) (lm_f0 hL) ?_
    refine r_ald (lm_k1 hL) (eI (9 : Int32) (by decide)) (fun _ => rfl) (fun v7 => ?_)
    exact r_some (qI_i rfl)
  · refine r_gr (d := 1) hm (lm_o hL) (lm_f0 hL) ?_
    refine r_ald (lm_k1 hL) (eI (9 : Int32) (by decide)) (fun _ => rfl) (fun v2 => ?_)
    refine r_p32 (px_sub (px_v _) (px_n (1 : Int32) (by decide))) ?_
    refine r_bind (A := qI) (rf_X2_isIn rfl (eI (0 : Int32) (by decide)) rfl) ?_
    rintro pv3 v3 ev3
    change pv3 = v3.toInt at ev3; subst ev3
    refine r_ite (pc_eq rfl (eI (0 : Int32) (by decide))) ?_ ?_
    · exact r_some (qI_i (eI (-2 : Int32) (by decide)))
    · refine r_bind (A := qI) (rf_X2_isIn rfl (eI (0 : Int32) (by decide)) (eI (3 : Int32) (by decide))) ?_
      rintro pv4 v4 ev4
      change pv4 = v4.toInt at ev4; subst ev4
      refine r_ite (pc_eq rfl (eI (0 : Int32) (by decide))) ?_ ?_
      · exact r_some (qI_i (eI (-2 : Int32) (by decide)))
      · refine r_bind (A := qI) (r_rc (B := (bM M)) (c := 0) (lm_o hL) (rf_X2_lineOf hL hm rfl rfl)) ?_
        rintro pv5 v5 ev5
        change pv5 = v5.toInt at ev5; subst ev5
        exact r_some (qI_i rfl)
def pb_X2_ledger_20 (S : zP) (a1 : Int) : (Int × Int) → Option (Int ⊕ (Int × Int)) := fun (v6, v7) =>
(pald S 1 1450 9).bind fun v9 =>
if v9 ≤ v7 then (some (.inl v6))
else (if a1 = (-1) then (p32 (v6 + 1) fun v10 =>
p32 (v7 + 1) fun v11 =>
some (.inr (v10, v11)))
else ((p_X2_lineOf S v7 1).bind fun v12 =>
if v12 = a1 then (p32 (v6 + 1) fun v15 =>
p32 (v7 + 1) fun v16 =>
some (.inr (v15, v16)))
else (p32 (v6 + 0) fun v13 =>
p32 (v7 + 1) fun v14 =>
some (.inr (v13, v14)))))
set_option maxHeartbeats 4000000 in
theorem rb_X2_ledger_20 {g : zGd} {M : Nat} {m0 : zMm} (hL : pLM g (zR m0) M) {m : zMm} (hm : pOk (bM M) m0 m) {pa1 : Int} {a1 : Int32} (ea1 : pa1 = a1.toInt) : ∀ s t, (qP qI qI) s t → pRf (qS qI (qP qI qI)) (pb_X2_ledger_20 (pI (bM M) m) pa1 s) (b_X2_ledger_20 g m (some ((bM M).1 + 0)) a1 t) := by
  subst ea1
  rintro ⟨pv6, pv7⟩ ⟨v6, v7⟩ ⟨ev6, ev7⟩
  change pv6 = v6.toInt at ev6; subst ev6
  change pv7 = v7.toInt at ev7; subst ev7
  unfold pb_X2_ledger_20 b_X2_ledger_20
  try dsimp only
  refine r_gr (d := 1) hm (lm_o hL) (lm_f0 hL) ?_
  refine r_ald (lm_k1 hL) (eI (9 : Int32) (by decide)) (fun _ => rfl) (fun v9 => ?_)
  refine r_ite (pc_le rfl rfl) ?_ ?_
  · exact r_some (qS_l (qI_i rfl))
  · refine r_ite (pc_eq rfl (eI (-1 : Int32) (by decide))) ?_ ?_
    · refine r_lt32 (px_add (px_v _) (px_n (1 : Int32) (by decide))) (fun v10 => ?_)
      refine r_lt32 (px_add (px_v _) (px_n (1 : Int32) (by decide))) (fun v11 => ?_)
      exact r_some (qS_r (qP_i (qI_i rfl) (qI_i rfl)))
    · refine r_bind (A := qI) (r_rc (B := (bM M)) (c := 0) (lm_o hL) (rf_X2_lineOf hL hm rfl (eI (1 : Int32) (by decide)))) ?_
      rintro pv12 v12 ev12
      change pv12 = v12.toInt at ev12; subst ev12
      refine r_ite (pc_eq rfl rfl) ?_ ?_
      · refine r_lt32 (px_add (px_v _) (px_n (1 : Int32) (by decide))) (fun v15 => ?_)
        refine r_lt32 (px_add (px_v _) (px_n (1 : Int32) (by decide))) (fun v16 => ?_)
        exact r_some (qS_r (qP_i (qI_i rfl) (qI_i rfl)))
      · refine r_lt32 (px_add (px_v _) (px_n (0 : Int32) (by decide))) (fun v13 => ?_)
        refine r_lt32 (px_add (px_v _) (px_n (1 : Int32) (by decide))) (fun v14 => ?_)
        exact r_some (qS_r (qP_i (qI_i rfl) (qI_i rfl)))
def p_X2_ledger (S : zP) (a1 : Int) : Option Int :=
zEx (σ := Unit) (if a1 = (-1) then (some (.inr ()))
else ((p_X2_isKin S a1).bind fun v2 =>
if v2 = 0 then (some (.inl (-2)))
else (some (.inr ())))) fun _ =>
(zLoop (pb_X2_ledger_20 S a1) zFuel (0, 0)).bind fun v4 =>
some (v4)
set_option maxHeartbeats 4000000 in
theorem rf_X2_ledger {g : zGd} {M : Nat} {m0 : zMm} (hL : pLM g (zR m0) M) {m : zMm} (hm : pOk (bM M) m0 m) {pa1 : Int} {a1 : Int32} (ea1 : pa1 = a1.toInt) : pRf qI (p_X2_ledger (pI (bM M) m) pa1) (f_X2_ledger g m (some ((bM M).1 + 0)) a1) := by
  subst ea1
  unfold p_X2_ledger f_X2_ledger
  refine r_ex (Q := qI) (R := qU) ?_ ?_
  · refine r_ite (pc_eq rfl (eI (-1 : Int32) (by decide))) ?_ ?_
    · exact r_some (qS_r qU_i)
    · refine r_bind (A := qI) (r_rc (B := (bM M)) (c := 0) (lm_o hL) (rf_X2_isKin hL hm rfl)) ?_
      rintro pv2 v2 ev2
      change pv2 = v2.toInt at ev2; subst ev2
      refine r_ite (pc_eq rfl (eI (0 : Int32) (by decide))) ?_ ?_
      · exact r_some (qS_l (qI_i (eI (-2 : Int32) (by decide))))
      · exact r_some (qS_r qU_i)
  rintro _ _ _
  refine r_bind (A := qI) (r_loop (rb_X2_ledger_20 hL hm rfl) zFuel _ _ (qP_i (qI_i (eI (0 : Int32) (by decide))) (qI_i (eI (0 : Int32) (by decide))))) ?_
  rintro pv4 v4 ev4
  change pv4 = v4.toInt at ev4; subst ev4
  exact r_some (qI_i rfl)
def pb_X2_fullest_4 (S : zP) : (Int × Int) → Option (Int ⊕ (Int × Int)) := fun (v4, v5) =>
(pald S 1 1450 0).bind fun v7 =>
if v7 ≤ v5 then (some (.inl v4))
else (p32 (11 + v5) fun x1 =>
(pald S 1 1450 x1).bind fun v9 =>
((if v4 = (-1) then (some (0))
else (p32 (11 + v4) fun x2 =>
(pald S 1 1450 x2).bind fun v13 =>
some (v13)) : Option Int)).bind fun v11 =>
if v9 ≤ v11 then (p32 (v5 + 1) fun v14 =>
some (.inr (v4, v14)))
else (p32 (v5 + 1) fun v15 =>
some (.inr (v5, v15))))
set_option maxHeartbeats 4000000 in
theorem rb_X2_fullest_4 {g : zGd} {M : Nat} {m0 : zMm} (hL : pLM g (zR m0) M) {m : zMm} (hm : pOk (bM M) m0 m) : ∀ s t, (qP qI qI) s t → pRf (qS qI (qP qI qI)) (pb_X2_fullest_4 (pI (bM M) m) s) (b_X2_fullest_4 g m (some ((bM M).1 + 0)) t) := by
  rintro ⟨pv4, pv5⟩ ⟨v4, v5⟩ ⟨ev4, ev5⟩
  change pv4 = v4.toInt at ev4; subst ev4
  change pv5 = v5.toInt at ev5; subst ev5
  unfold pb_X2_fullest_4 b_X2_fullest_4
  try dsimp only
  refine r_gr (d := 1) hm (lm_o hL) (lm_f0 hL) ?_
  refine r_ald (lm_k1 hL) (eI (0 : Int32) (by decide)) (fun _ => rfl) (fun v7 => ?_)
  refine r_ite (pc_le rfl rfl) ?_ ?_
  · exact r_some (qS_l (qI_i rfl))
  · refine r_gr (d := 1) hm (lm_o hL) (lm_f0 hL) ?_
    refine r_p32 (px_add (px_n (11 : Int32) (by decide)) (px_v _)) ?_
    refine r_ald (lm_k1 hL) rfl (fun _ => rfl) (fun v9 => ?_)
    refine r_bind (A := qI) ?_ ?_
    · refine r_ite (pc_eq rfl (eI (-1 : Int32) (by decide))) ?_ ?_
      · exact r_some (qI_i (eI (0 : Int32) (by decide)))
      · refine r_gr (d := 1) hm (lm_o hL) (lm_f0 hL) ?_
        refine r_p32 (px_add (px_n (11 : Int32) (by decide)) (px_v _)) ?_
        refine r_ald (lm_k1 hL) rfl (fun _ => rfl) (fun v13 => ?_)
        exact r_some (qI_i rfl)
    rintro pv11 v11 ev11
    change pv11 = v11.toInt at ev11; subst ev11
    refine r_ite (pc_le rfl rfl) ?_ ?_
    · refine r_lt32 (px_add (px_v _) (px_n (1 : Int32) (by decide))) (fun v14 => ?_)
      exact r_some (qS_r (qP_i (qI_i rfl) (qI_i rfl)))
    · refine r_lt32 (px_add (px_v _) (px_n (1 : Int32) (by decide))) (fun v15 => ?_)
      exact r_some (qS_r (qP_i (qI_i rfl) (qI_i rfl)))
def p_X2_fullest (S : zP) : Option Int :=
(zLoop (pb_X2_fullest_4 S) zFuel ((-1), 0)).bind fun v2 =>
some (v2)
set_option maxHeartbeats 4000000 in
theorem rf_X2_fullest {g : zGd} {M : Nat} {m0 : zMm} (hL : pLM g (zR m0) M) {m : zMm} (hm : pOk (bM M) m0 m) : pRf qI (p_X2_fullest (pI (bM M) m)) (f_X2_fullest g m (some ((bM M).1 + 0))) := by
  unfold p_X2_fullest f_X2_fullest
  refine r_bind (A := qI) (r_loop (rb_X2_fullest_4 hL hm) zFuel _ _ (qP_i (qI_i (eI (-1 : Int32) (by decide))) (qI_i (eI (0 : Int32) (by decide))))) ?_
  rintro pv2 v2 ev2
  change pv2 = v2.toInt at ev2; subst ev2
  exact r_some (qI_i rfl)
def pb_X2_calm_4 (S : zP) : (Int × Int) → Option (Int ⊕ (Int × Int)) := fun (v4, v5) =>
(pald S 1 1450 0).bind fun v7 =>
if v7 ≤ v5 then (some (.inl v4))
else (p32 (11 + v5) fun x1 =>
(pald S 1 1450 x1).bind fun v9 =>
if v9 = 0 then (zlt (pshl 1 v5) fun x2 =>
zlt (por v4 x2) fun v12 =>
p32 (v5 + 1) fun v13 =>
some (.inr (v12, v13)))
else (zlt (por v4 0) fun v10 =>
p32 (v5 + 1) fun v11 =>
some (.inr (v10, v11))))
set_option maxHeartbeats 4000000 in
theorem rb_X2_calm_4 {g : zGd} {M : Nat} {m0 : zMm} (hL : pLM g (zR m0) M) {m : zMm} (hm : pOk (bM M) m0 m) : ∀ s t, (qP qI qI) s t → pRf (qS qI (qP qI qI)) (pb_X2_calm_4 (pI (bM M) m) s) (b_X2_calm_4 g m (some ((bM M).1 + 0)) t) := by
  rintro ⟨pv4, pv5⟩ ⟨v4, v5⟩ ⟨ev4, ev5⟩
  change pv4 = v4.toInt at ev4; subst ev4
  change pv5 = v5.toInt at ev5; subst ev5
  unfold pb_X2_calm_4 b_X2_calm_4
  try dsimp only
  refine r_gr (d := 1) hm (lm_o hL) (lm_f0 hL) ?_
  refine r_ald (lm_k1 hL) (eI (0 : Int32) (by decide)) (fun _ => rfl) (fun v7 => ?_)
  refine r_ite (pc_le rfl rfl) ?_ ?_
  · exact r_some (qS_l (qI_i rfl))
  · refine r_gr (d := 1) hm (lm_o hL) (lm_f0 hL) ?_
    refine r_p32 (px_add (px_n (11 : Int32) (by decide)) (px_v _)) ?_
    refine r_ald (lm_k1 hL) rfl (fun _ => rfl) (fun v9 => ?_)
    refine r_ite (pc_eq rfl (eI (0 : Int32) (by decide))) ?_ ?_
    · refine r_x32 (pe_shl (eI (1 : Int32) (by decide)) rfl) ?_
      refine r_ltx (pe_or rfl rfl) (fun v12 => ?_)
      refine r_lt32 (px_add (px_v _) (px_n (1 : Int32) (by decide))) (fun v13 => ?_)
      exact r_some (qS_r (qP_i (qI_i rfl) (qI_i rfl)))
    · refine r_ltx (pe_or rfl (eI (0 : Int32) (by decide))) (fun v10 => ?_)
      refine r_lt32 (px_add (px_v _) (px_n (1 : Int32) (by decide))) (fun v11 => ?_)
      exact r_some (qS_r (qP_i (qI_i rfl) (qI_i rfl)))
def p_X2_calm (S : zP) : Option Int :=
(zLoop (pb_X2_calm_4 S) zFuel (0, 0)).bind fun v2 =>
some (v2)
set_option maxHeartbeats 4000000 in
theorem rf_X2_calm {g : zGd} {M : Nat} {m0 : zMm} (hL : pLM g (zR m0) M) {m : zMm} (hm : pOk (bM M) m0 m) : pRf qI (p_X2_calm (pI (bM M) m)) (f_X2_calm g m (some ((bM M).1 + 0))) := by
  unfold p_X2_calm f_X2_calm
  refine r_bind (A := qI) (r_loop (rb_X2_calm_4 hL hm) zFuel _ _ (qP_i (qI_i (eI (0 : Int32) (by decide))) (qI_i (eI (0 : Int32) (by decide))))) ?_
  rintro pv2 v2 ev2
  change pv2 = v2.toInt at ev2; subst ev2
  exact r_some (qI_i rfl)
def pb_X2_foretold_23  : (Int × zP) → Option (zP ⊕ (Int × zP)) := fun (v6, S7) =>
if 23 ≤ v6 then (some (.inl S7))
else ((pald S7 1 1450 v6).bind fun v10 =>
(past S7 9 23 v6 v10).bind fun S11 =>
p32 (v6 + 1) fun v12 =>
some (.inr (v12, S11)))
set_option maxHeartbeats 4000000 in
theorem rb_X2_foretold_23 {g : zGd} {M : Nat} {m0 : zMm} (hL : pLM g (zR m0) M)  : ∀ s t, (qP qI (qM (bM M) m0)) s t → pRf (qS (qM (bM M) m0) (qP qI (qM (bM M) m0))) (pb_X2_foretold_23 s) (b_X2_foretold_23 g (some ((bM M).1 + 0)) t) := by
  rintro ⟨pv6, S7⟩ ⟨v6, m7⟩ ⟨ev6, ⟨em7, hm7⟩⟩
  change pv6 = v6.toInt at ev6; subst ev6
  change S7 = pI (bM M) m7 at em7; subst em7
  unfold pb_X2_foretold_23 b_X2_foretold_23
  try dsimp only
  refine r_ite (pc_le (eI (23 : Int32) (by decide)) rfl) ?_ ?_
  · exact r_some (qS_l (qM_i hm7))
  · refine r_gr (d := 9) hm7 (lm_o hL) (lm_f25 hL) ?_
    refine r_gr (d := 1) hm7 (lm_o hL) (lm_f0 hL) ?_
    refine r_ald (lm_k1 hL) rfl (fun _ => rfl) (fun v10 => ?_)
    refine r_ast hm7 (lm_k9 hL) hL.1 (wM (by omega)) rfl rfl (fun _ => rfl) (fun m11 hm11 => ?_)
    refine r_lt32 (px_add (px_v _) (px_n (1 : Int32) (by decide))) (fun v12 => ?_)
    exact r_some (qS_r (qP_i (qI_i rfl) (qM_i hm11)))
def pb_X2_foretold_54 (a1 : Int) : (Int × zP) → Option (zP ⊕ (Int × zP)) := fun (v17, S18) =>
if a1 ≤ v17 then (some (.inl S18))
else ((pald S18 1 1450 7).bind fun v20 =>
if 9999 ≤ v20 then (p32 (v17 + 1) fun v21 =>
some (.inr (v21, S18)))
else ((p_X2_pass S18).bind fun S22 =>
p32 (v17 + 1) fun v23 =>
some (.inr (v23, S22))))
set_option maxHeartbeats 4000000 in
theorem rb_X2_foretold_54 {g : zGd} {M : Nat} {m0 : zMm} (hL : pLM g (zR m0) M) {pa1 : Int} {a1 : Int32} (ea1 : pa1 = a1.toInt) : ∀ s t, (qP qI (qM (bM M) m0)) s t → pRf (qS (qM (bM M) m0) (qP qI (qM (bM M) m0))) (pb_X2_foretold_54 pa1 s) (b_X2_foretold_54 g (some ((bM M).1 + 0)) a1 t) := by
  subst ea1
  rintro ⟨pv17, S18⟩ ⟨v17, m18⟩ ⟨ev17, ⟨em18, hm18⟩⟩
  change pv17 = v17.toInt at ev17; subst ev17
  change S18 = pI (bM M) m18 at em18; subst em18
  unfold pb_X2_foretold_54 b_X2_foretold_54
  try dsimp only
  refine r_ite (pc_le rfl rfl) ?_ ?_
  · exact r_some (qS_l (qM_i hm18))
  · refine r_gr (d := 1) hm18 (lm_o hL) (lm_f0 hL) ?_
    refine r_ald (lm_k1 hL) (eI (7 : Int32) (by decide)) (fun _ => rfl) (fun v20 => ?_)
    refine r_ite (pc_le (eI (9999 : Int32) (by decide)) rfl) ?_ ?_
    · refine r_lt32 (px_add (px_v _) (px_n (1 : Int32) (by decide))) (fun v21 => ?_)
      exact r_some (qS_r (qP_i (qI_i rfl) (qM_i hm18)))
    · refine r_bind (A := (qM (bM M) m0)) (r_rc (B := (bM M)) (c := 0) (lm_o hL) (rf_X2_pass hL hm18)) ?_
      rintro S22 m22 ⟨em22, hm22⟩
      change S22 = pI (bM M) m22 at em22; subst em22
      refine r_lt32 (px_add (px_v _) (px_n (1 : Int32) (by decide))) (fun v23 => ?_)
      exact r_some (qS_r (qP_i (qI_i rfl) (qM_i hm22)))
def pb_X2_foretold_96  : (Int × zP) → Option (zP ⊕ (Int × zP)) := fun (v29, S30) =>
if 23 ≤ v29 then (some (.inl S30))
else ((pald S30 9 23 v29).bind fun v33 =>
(past S30 1 1450 v29 v33).bind fun S34 =>
p32 (v29 + 1) fun v35 =>
some (.inr (v35, S34)))
set_option maxHeartbeats 4000000 in
theorem rb_X2_foretold_96 {g : zGd} {M : Nat} {m0 : zMm} (hL : pLM g (zR m0) M)  : ∀ s t, (qP qI (qM (bM M) m0)) s t → pRf (qS (qM (bM M) m0) (qP qI (qM (bM M) m0))) (pb_X2_foretold_96 s) (b_X2_foretold_96 g (some ((bM M).1 + 0)) t) := by
  rintro ⟨pv29, S30⟩ ⟨v29, m30⟩ ⟨ev29, ⟨em30, hm30⟩⟩
  change pv29 = v29.toInt at ev29; subst ev29
  change S30 = pI (bM M) m30 at em30; subst em30
  unfold pb_X2_foretold_96 b_X2_foretold_96
  try dsimp only
  refine r_ite (pc_le (eI (23 : Int32) (by decide)) rfl) ?_ ?_
  · exact r_some (qS_l (qM_i hm30))
  · refine r_gr (d := 1) hm30 (lm_o hL) (lm_f0 hL) ?_
    refine r_gr (d := 9) hm30 (lm_o hL) (lm_f25 hL) ?_
    refine r_ald (lm_k9 hL) rfl (fun _ => rfl) (fun v33 => ?_)
    refine r_ast hm30 (lm_k1 hL) hL.1 (wM (by omega)) rfl rfl (fun _ => rfl) (fun m34 hm34 => ?_)
    refine r_lt32 (px_add (px_v _) (px_n (1 : Int32) (by decide))) (fun v35 => ?_)
    exact r_some (qS_r (qP_i (qI_i rfl) (qM_i hm34)))
def p_X2_foretold (S : zP) (a1 : Int) (a2 : Int) : Option (Int × zP) :=
(p_X2_isIn a1 1 60).bind fun v1 =>
if v1 = 0 then (some (((-1), S)))
else ((p_X2_isKin S a2).bind fun v2 =>
if v2 = 0 then (some (((-1), S)))
else ((zLoop pb_X2_foretold_23 zFuel (7, S)).bind fun S4 =>
zlt (pup S4 0 23 0) fun S13 =>
(zLoop (pb_X2_foretold_54 a1) zFuel (0, S13)).bind fun S15 =>
p32 (11 + a2) fun x1 =>
(pald S15 1 1450 x1).bind fun v25 =>
(zLoop pb_X2_foretold_96 zFuel (7, S15)).bind fun S27 =>
zlt (pup S27 0 23 1) fun S36 =>
some ((v25, S36))))
set_option maxHeartbeats 4000000 in
theorem rf_X2_foretold {g : zGd} {M : Nat} {m0 : zMm} (hL : pLM g (zR m0) M) {m : zMm} (hm : pOk (bM M) m0 m) {pa1 : Int} {a1 : Int32} (ea1 : pa1 = a1.toInt) {pa2 : Int} {a2 : Int32} (ea2 : pa2 = a2.toInt) : pRf (qP qI (qM (bM M) m0)) (p_X2_foretold (pI (bM M) m) pa1 pa2) (f_X2_foretold g m (some ((bM M).1 + 0)) a1 a2) := by
  subst ea1
  subst ea2
  unfold p_X2_foretold f_X2_foretold
  refine r_bind (A := qI) (rf_X2_isIn rfl (eI (1 : Int32) (by decide)) (eI (60 : Int32) (by decide))) ?_
  rintro pv1 v1 ev1
  change pv1 = v1.toInt at ev1; subst ev1
  refine r_ite (pc_eq rfl (eI (0 : Int32) (by decide))) ?_ ?_
  · exact r_some (qP_i (qI_i (eI (-1 : Int32) (by decide))) (qM_i hm))
  · refine r_bind (A := qI) (r_rc (B := (bM M)) (c := 0) (lm_o hL) (rf_X2_isKin hL hm rfl)) ?_
    rintro pv2 v2 ev2
    change pv2 = v2.toInt at ev2; subst ev2
    refine r_ite (pc_eq rfl (eI (0 : Int32) (by decide))) ?_ ?_
    · exact r_some (qP_i (qI_i (eI (-1 : Int32) (by decide))) (qM_i hm))
    · refine r_bind (A := (qM (bM M) m0)) (r_loop (rb_X2_foretold_23 hL) zFuel _ _ (qP_i (qI_i (eI (7 : Int32) (by decide))) (qM_i hm))) ?_
      rintro S4 m4 ⟨em4, hm4⟩
      change S4 = pI (bM M) m4 at em4; subst em4
      refine r_pz (B := (bM M)) (c := 0) (i := 23) (by decide) hm4 (lm_o hL) hL.1 (wM (by omega)) rfl rfl (eI (0 : Int32) (by decide)) (fun m13 hm13 => ?_)
      refine r_bind (A := (qM (bM M) m0)) (r_loop (rb_X2_foretold_54 hL rfl) zFuel _ _ (qP_i (qI_i (eI (0 : Int32) (by decide))) (qM_i hm13))) ?_
      rintro S15 m15 ⟨em15, hm15⟩
      change S15 = pI (bM M) m15 at em15; subst em15
      refine r_gr (d := 1) hm15 (lm_o hL) (lm_f0 hL) ?_
      refine r_p32 (px_add (px_n (11 : Int32) (by decide)) (px_v _)) ?_
      refine r_ald (lm_k1 hL) rfl (fun _ => rfl) (fun v25 => ?_)
      refine r_bind (A := (qM (bM M) m0)) (r_loop (rb_X2_foretold_96 hL) zFuel _ _ (qP_i (qI_i (eI (7 : Int32) (by decide))) (qM_i hm15))) ?_
      rintro S27 m27 ⟨em27, hm27⟩
      change S27 = pI (bM M) m27 at em27; subst em27
      refine r_pz (B := (bM M)) (c := 0) (i := 23) (by decide) hm27 (lm_o hL) hL.1 (wM (by omega)) rfl rfl (eI (1 : Int32) (by decide)) (fun m36 hm36 => ?_)
      exact r_some (qP_i (qI_i rfl) (qM_i hm36))
def pb_X2_factorial_4 (a0 : Int) : (Int × Int) → Option (Int ⊕ (Int × Int)) := fun (v4, v5) =>
if a0 < v5 then (some (.inl v4))
else (p32 (v4 * v5) fun v6 =>
p32 (v5 + 1) fun v7 =>
some (.inr (v6, v7)))
set_option maxHeartbeats 4000000 in
theorem rb_X2_factorial_4 {pa0 : Int} {a0 : Int32} (ea0 : pa0 = a0.toInt) : ∀ s t, (qP qI qI) s t → pRf (qS qI (qP qI qI)) (pb_X2_factorial_4 pa0 s) (b_X2_factorial_4 a0 t) := by
  subst ea0
  rintro ⟨pv4, pv5⟩ ⟨v4, v5⟩ ⟨ev4, ev5⟩
  change pv4 = v4.toInt at ev4; subst ev4
  change pv5 = v5.toInt at ev5; subst ev5
  unfold pb_X2_factorial_4 b_X2_factorial_4
  try dsimp only
  refine r_ite (pc_lt rfl rfl) ?_ ?_
  · exact r_some (qS_l (qI_i rfl))
  · refine r_lt32 (px_mul (px_v _) (px_v _)) (fun v6 => ?_)
    refine r_lt32 (px_add (px_v _) (px_n (1 : Int32) (by decide))) (fun v7 => ?_)
    exact r_some (qS_r (qP_i (qI_i rfl) (qI_i rfl)))
def p_X2_factorial (a0 : Int) : Option Int :=
(zLoop (pb_X2_factorial_4 a0) zFuel (1, 2)).bind fun v2 =>
some (v2)
set_option maxHeartbeats 4000000 in
theorem rf_X2_factorial {pa0 : Int} {a0 : Int32} (ea0 : pa0 = a0.toInt) : pRf qI (p_X2_factorial pa0) (f_X2_factorial a0) := by
  subst ea0
  unfold p_X2_factorial f_X2_factorial
  refine r_bind (A := qI) (r_loop (rb_X2_factorial_4 rfl) zFuel _ _ (qP_i (qI_i (eI (1 : Int32) (by decide))) (qI_i (eI (2 : Int32) (by decide))))) ?_
  rintro pv2 v2 ev2
  change pv2 = v2.toInt at ev2; subst ev2
  exact r_some (qI_i rfl)
def pb_X2_layRow_63 (v7 : Int) : (Int × Int) → Option (Int ⊕ (Int × Int)) := fun (v23, v24) =>
(p_X2_has v7 v24).bind fun v25 =>
zEx (σ := Unit) (if v25 = 0 then (if v23 ≤ 0 then (some (.inl (.inl v24)))
else (some (.inr ())))
else (some (.inr ()))) fun _ =>
(p_X2_has v7 v24).bind fun v27 =>
if v27 = 0 then (p32 (v23 - 1) fun v28 =>
p32 (v24 + 1) fun v29 =>
some (.inr (v28, v29)))
else (p32 (v23 - 0) fun v30 =>
p32 (v24 + 1) fun v31 =>
some (.inr (v30, v31)))
set_option maxHeartbeats 4000000 in
theorem rb_X2_layRow_63 {pv7 : Int} {v7 : Int32} (ev7 : pv7 = v7.toInt) : ∀ s t, (qP qI qI) s t → pRf (qS qI (qP qI qI)) (pb_X2_layRow_63 pv7 s) (b_X2_layRow_63 v7 t) := by
  subst ev7
  rintro ⟨pv23, pv24⟩ ⟨v23, v24⟩ ⟨ev23, ev24⟩
  change pv23 = v23.toInt at ev23; subst ev23
  change pv24 = v24.toInt at ev24; subst ev24
  unfold pb_X2_layRow_63 b_X2_layRow_63
  try dsimp only
  refine r_bind (A := qI) (rf_X2_has rfl rfl) ?_
  rintro pv25 v25 ev25
  change pv25 = v25.toInt at ev25; subst ev25
  refine r_ex (Q := (qS qI (qP qI qI))) (R := qU) ?_ ?_
  · refine r_ite (pc_eq rfl (eI (0 : Int32) (by decide))) ?_ ?_
    · refine r_ite (pc_le rfl (eI (0 : Int32) (by decide))) ?_ ?_
      · exact r_some (qS_l (qS_l (qI_i rfl)))
      · exact r_some (qS_r qU_i)
    · exact r_some (qS_r qU_i)
  rintro _ _ _
  refine r_bind (A := qI) (rf_X2_has rfl rfl) ?_
  rintro pv27 v27 ev27
  change pv27 = v27.toInt at ev27; subst ev27
  refine r_ite (pc_eq rfl (eI (0 : Int32) (by decide))) ?_ ?_
  · refine r_lt32 (px_sub (px_v _) (px_n (1 : Int32) (by decide))) (fun v28 => ?_)
    refine r_lt32 (px_add (px_v _) (px_n (1 : Int32) (by decide))) (fun v29 => ?_)
    exact r_some (qS_r (qP_i (qI_i rfl) (qI_i rfl)))
  · refine r_lt32 (px_sub (px_v _) (px_n (0 : Int32) (by decide))) (fun v30 => ?_)
    refine r_lt32 (px_add (px_v _) (px_n (1 : Int32) (by decide))) (fun v31 => ?_)
    exact r_some (qS_r (qP_i (qI_i rfl) (qI_i rfl)))
def pb_X2_layRow_14  : (Int × (Int × (Int × zP))) → Option (zP ⊕ (Int × (Int × (Int × zP)))) := fun (v6, v7, v8, S9) =>
(pald S9 1 1450 0).bind fun v11 =>
if v11 ≤ v8 then (some (.inl S9))
else ((pald S9 1 1450 0).bind fun v13 =>
p32 ((v13 - 1) - v8) fun x1 =>
(p_X2_factorial x1).bind fun v14 =>
(pdiv v6 v14).bind fun v15 =>
(pald S9 1 1450 0).bind fun v17 =>
p32 ((v17 - 1) - v8) fun x2 =>
(p_X2_factorial x2).bind fun v18 =>
(pmod v6 v18).bind fun v19 =>
(zLoop (pb_X2_layRow_63 v7) zFuel (v15, 0)).bind fun v21 =>
zlt (pshl 1 v21) fun x3 =>
zlt (por v7 x3) fun v32 =>
(past S9 10 6 v8 v21).bind fun S34 =>
p32 (v8 + 1) fun v35 =>
some (.inr (v19, v32, v35, S34)))
set_option maxHeartbeats 4000000 in
theorem rb_X2_layRow_14 {g : zGd} {M : Nat} {m0 : zMm} (hL : pLM g (zR m0) M)  : ∀ s t, (qP qI (qP qI (qP qI (qM (bM M) m0)))) s t → pRf (qS (qM (bM M) m0) (qP qI (qP qI (qP qI (qM (bM M) m0))))) (pb_X2_layRow_14 s) (b_X2_layRow_14 g (some ((bM M).1 + 0)) t) := by
  rintro ⟨pv6, pv7, pv8, S9⟩ ⟨v6, v7, v8, m9⟩ ⟨ev6, ev7, ev8, ⟨em9, hm9⟩⟩
  change pv6 = v6.toInt at ev6; subst ev6
  change pv7 = v7.toInt at ev7; subst ev7
  change pv8 = v8.toInt at ev8; subst ev8
  change S9 = pI (bM M) m9 at em9; subst em9
  unfold pb_X2_layRow_14 b_X2_layRow_14
  try dsimp only
  refine r_gr (d := 1) hm9 (lm_o hL) (lm_f0 hL) ?_
  refine r_ald (lm_k1 hL) (eI (0 : Int32) (by decide)) (fun _ => rfl) (fun v11 => ?_)
  refine r_ite (pc_le rfl rfl) ?_ ?_
  · exact r_some (qS_l (qM_i hm9))
  · refine r_gr (d := 1) hm9 (lm_o hL) (lm_f0 hL) ?_
    refine r_ald (lm_k1 hL) (eI (0 : Int32) (by decide)) (fun _ => rfl) (fun v13 => ?_)
    refine r_p32 (px_sub (px_sub (px_v _) (px_n (1 : Int32) (by decide))) (px_v _)) ?_
    refine r_bind (A := qI) (rf_X2_factorial rfl) ?_
    rintro pv14 v14 ev14
    change pv14 = v14.toInt at ev14; subst ev14
    refine r_div rfl rfl (fun v15 => ?_)
    refine r_gr (d := 1) hm9 (lm_o hL) (lm_f0 hL) ?_
    refine r_ald (lm_k1 hL) (eI (0 : Int32) (by decide)) (fun _ => rfl) (fun v17 => ?_)
    refine r_p32 (px_sub (px_sub (px_v _) (px_n (1 : Int32) (by decide))) (px_v _)) ?_
    refine r_bind (A := qI) (rf_X2_factorial rfl) ?_
    rintro pv18 v18 ev18
    change pv18 = v18.toInt at ev18; subst ev18
    refine r_mod rfl rfl (fun v19 => ?_)
    refine r_bind (A := qI) (r_loop (rb_X2_layRow_63 rfl) zFuel _ _ (qP_i (qI_i rfl) (qI_i (eI (0 : Int32) (by decide))))) ?_
    rintro pv21 v21 ev21
    change pv21 = v21.toInt at ev21; subst ev21
    refine r_x32 (pe_shl (eI (1 : Int32) (by decide)) rfl) ?_
    refine r_ltx (pe_or rfl rfl) (fun v32 => ?_)
    refine r_gr (d := 10) hm9 (lm_o hL) (lm_f26 hL) ?_
    refine r_ast hm9 (lm_k10 hL) hL.1 (wM (by omega)) rfl rfl (fun _ => rfl) (fun m34 hm34 => ?_)
    refine r_lt32 (px_add (px_v _) (px_n (1 : Int32) (by decide))) (fun v35 => ?_)
    exact r_some (qS_r (qP_i (qI_i rfl) (qP_i (qI_i rfl) (qP_i (qI_i rfl) (qM_i hm34)))))
def p_X2_layRow (S : zP) (a1 : Int) : Option zP :=
(past S 10 6 0 0).bind fun S2 =>
(zLoop pb_X2_layRow_14 zFuel (a1, 1, 1, S2)).bind fun S4 =>
some (S4)
set_option maxHeartbeats 4000000 in
theorem rf_X2_layRow {g : zGd} {M : Nat} {m0 : zMm} (hL : pLM g (zR m0) M) {m : zMm} (hm : pOk (bM M) m0 m) {pa1 : Int} {a1 : Int32} (ea1 : pa1 = a1.toInt) : pRf (qM (bM M) m0) (p_X2_layRow (pI (bM M) m) pa1) (f_X2_layRow g m (some ((bM M).1 + 0)) a1) := by
  subst ea1
  unfold p_X2_layRow f_X2_layRow
  refine r_gr (d := 10) hm (lm_o hL) (lm_f26 hL) ?_
  refine r_ast hm (lm_k10 hL) hL.1 (wM (by omega)) (eI (0 : Int32) (by decide)) (eI (0 : Int32) (by decide)) (fun _ => rfl) (fun m2 hm2 => ?_)
  refine r_bind (A := (qM (bM M) m0)) (r_loop (rb_X2_layRow_14 hL) zFuel _ _ (qP_i (qI_i rfl) (qP_i (qI_i (eI (1 : Int32) (by decide))) (qP_i (qI_i (eI (1 : Int32) (by decide))) (qM_i hm2))))) ?_
  rintro S4 m4 ⟨em4, hm4⟩
  change S4 = pI (bM M) m4 at em4; subst em4
  exact r_some (qM_i hm4)
def p_X2_seatingsInAll (S : zP) : Option Int :=
(pald S 1 1450 0).bind fun v2 =>
p32 (v2 - 1) fun x1 =>
(p_X2_factorial x1).bind fun v3 =>
some (v3)
set_option maxHeartbeats 4000000 in
theorem rf_X2_seatingsInAll {g : zGd} {M : Nat} {m0 : zMm} (hL : pLM g (zR m0) M) {m : zMm} (hm : pOk (bM M) m0 m) : pRf qI (p_X2_seatingsInAll (pI (bM M) m)) (f_X2_seatingsInAll g m (some ((bM M).1 + 0))) := by
  unfold p_X2_seatingsInAll f_X2_seatingsInAll
  refine r_gr (d := 1) hm (lm_o hL) (lm_f0 hL) ?_
  refine r_ald (lm_k1 hL) (eI (0 : Int32) (by decide)) (fun _ => rfl) (fun v2 => ?_)
  refine r_p32 (px_sub (px_v _) (px_n (1 : Int32) (by decide))) ?_
  refine r_bind (A := qI) (rf_X2_factorial rfl) ?_
  rintro pv3 v3 ev3
  change pv3 = v3.toInt at ev3; subst ev3
  exact r_some (qI_i rfl)
def pb_X2_spiteOfRow_11 (S : zP) (v2 : Int) : (Int × Int) → Option (Int ⊕ (Int × Int)) := fun (v6, v7) =>
if v2 ≤ v7 then (some (.inl v6))
else (zEx (σ := Unit) (if 2 < v2 then (some (.inr ()))
else (p32 (v2 - 1) fun x1 =>
if x1 ≤ v7 then (p32 (v7 + 1) fun v9 =>
some (.inl (.inr (v6, v9))))
else (some (.inr ())))) fun _ =>
(pald S 10 6 v7).bind fun v12 =>
p32 (v7 + 1) fun x2 =>
(pmod x2 v2).bind fun v14 =>
(pald S 10 6 v14).bind fun v15 =>
p32 ((35 + (6 * v12)) + v15) fun x3 =>
(pald S 1 1450 x3).bind fun v16 =>
p32 (v6 + v16) fun v17 =>
p32 (v7 + 1) fun v18 =>
some (.inr (v17, v18)))
set_option maxHeartbeats 4000000 in
theorem rb_X2_spiteOfRow_11 {g : zGd} {M : Nat} {m0 : zMm} (hL : pLM g (zR m0) M) {m : zMm} (hm : pOk (bM M) m0 m) {pv2 : Int} {v2 : Int32} (ev2 : pv2 = v2.toInt) : ∀ s t, (qP qI qI) s t → pRf (qS qI (qP qI qI)) (pb_X2_spiteOfRow_11 (pI (bM M) m) pv2 s) (b_X2_spiteOfRow_11 g m (some ((bM M).1 + 0)) v2 t) := by
  subst ev2
  rintro ⟨pv6, pv7⟩ ⟨v6, v7⟩ ⟨ev6, ev7⟩
  change pv6 = v6.toInt at ev6; subst ev6
  change pv7 = v7.toInt at ev7; subst ev7
  unfold pb_X2_spiteOfRow_11 b_X2_spiteOfRow_11
  try dsimp only
  refine r_ite (pc_le rfl rfl) ?_ ?_
  · exact r_some (qS_l (qI_i rfl))
  · refine r_ex (Q := (qS qI (qP qI qI))) (R := qU) ?_ ?_
    · refine r_ite (pc_lt (eI (2 : Int32) (by decide)) rfl) ?_ ?_
      · exact r_some (qS_r qU_i)
      · refine r_p32 (px_sub (px_v _) (px_n (1 : Int32) (by decide))) ?_
        refine r_ite (pc_le rfl rfl) ?_ ?_
        · refine r_lt32 (px_add (px_v _) (px_n (1 : Int32) (by decide))) (fun v9 => ?_)
          exact r_some (qS_l (qS_r (qP_i (qI_i rfl) (qI_i rfl))))
        · exact r_some (qS_r qU_i)
    rintro _ _ _
    refine r_gr (d := 1) hm (lm_o hL) (lm_f0 hL) ?_
    refine r_gr (d := 10) hm (lm_o hL) (lm_f26 hL) ?_
    refine r_ald (lm_k10 hL) rfl (fun _ => rfl) (fun v12 => ?_)
    refine r_gr (d := 10) hm (lm_o hL) (lm_f26 hL) ?_
    refine r_p32 (px_add (px_v _) (px_n (1 : Int32) (by decide))) ?_
    refine r_mod rfl rfl (fun v14 => ?_)
    refine r_ald (lm_k10 hL) rfl (fun _ => rfl) (fun v15 => ?_)
    refine r_p32 (px_add (px_add (px_n (35 : Int32) (by decide)) (px_mul (px_n (6 : Int32) (by decide)) (px_v _))) (px_v _)) ?_
    refine r_ald (lm_k1 hL) rfl (fun _ => rfl) (fun v16 => ?_)
    refine r_lt32 (px_add (px_v _) (px_v _)) (fun v17 => ?_)
    refine r_lt32 (px_add (px_v _) (px_n (1 : Int32) (by decide))) (fun v18 => ?_)
    exact r_some (qS_r (qP_i (qI_i rfl) (qI_i rfl)))
def p_X2_spiteOfRow (S : zP) : Option Int :=
(pald S 1 1450 0).bind fun v2 =>
(zLoop (pb_X2_spiteOfRow_11 S v2) zFuel (0, 0)).bind fun v4 =>
some (v4)
set_option maxHeartbeats 4000000 in
theorem rf_X2_spiteOfRow {g : zGd} {M : Nat} {m0 : zMm} (hL : pLM g (zR m0) M) {m : zMm} (hm : pOk (bM M) m0 m) : pRf qI (p_X2_spiteOfRow (pI (bM M) m)) (f_X2_spiteOfRow g m (some ((bM M).1 + 0))) := by
  unfold p_X2_spiteOfRow f_X2_spiteOfRow
  refine r_gr (d := 1) hm (lm_o hL) (lm_f0 hL) ?_
  refine r_ald (lm_k1 hL) (eI (0 : Int32) (by decide)) (fun _ => rfl) (fun v2 => ?_)
  refine r_bind (A := qI) (r_loop (rb_X2_spiteOfRow_11 hL hm rfl) zFuel _ _ (qP_i (qI_i (eI (0 : Int32) (by decide))) (qI_i (eI (0 : Int32) (by decide))))) ?_
  rintro pv4 v4 ev4
  change pv4 = v4.toInt at ev4; subst ev4
  exact r_some (qI_i rfl)
def pb_X2_layBest_133  : (Int × zP) → Option (zP ⊕ (Int × zP)) := fun (v38, S39) =>
(pald S39 1 1450 0).bind fun v41 =>
if v41 ≤ v38 then (some (.inl S39))
else ((pald S39 10 6 v38).bind fun v44 =>
(past S39 11 6 v38 v44).bind fun S45 =>
p32 (v38 + 1) fun v46 =>
some (.inr (v46, S45)))
set_option maxHeartbeats 4000000 in
theorem rb_X2_layBest_133 {g : zGd} {M : Nat} {m0 : zMm} (hL : pLM g (zR m0) M)  : ∀ s t, (qP qI (qM (bM M) m0)) s t → pRf (qS (qM (bM M) m0) (qP qI (qM (bM M) m0))) (pb_X2_layBest_133 s) (b_X2_layBest_133 g (some ((bM M).1 + 0)) t) := by
  rintro ⟨pv38, S39⟩ ⟨v38, m39⟩ ⟨ev38, ⟨em39, hm39⟩⟩
  change pv38 = v38.toInt at ev38; subst ev38
  change S39 = pI (bM M) m39 at em39; subst em39
  unfold pb_X2_layBest_133 b_X2_layBest_133
  try dsimp only
  refine r_gr (d := 1) hm39 (lm_o hL) (lm_f0 hL) ?_
  refine r_ald (lm_k1 hL) (eI (0 : Int32) (by decide)) (fun _ => rfl) (fun v41 => ?_)
  refine r_ite (pc_le rfl rfl) ?_ ?_
  · exact r_some (qS_l (qM_i hm39))
  · refine r_gr (d := 11) hm39 (lm_o hL) (lm_f27 hL) ?_
    refine r_gr (d := 10) hm39 (lm_o hL) (lm_f26 hL) ?_
    refine r_ald (lm_k10 hL) rfl (fun _ => rfl) (fun v44 => ?_)
    refine r_ast hm39 (lm_k11 hL) hL.1 (wM (by omega)) rfl rfl (fun _ => rfl) (fun m45 hm45 => ?_)
    refine r_lt32 (px_add (px_v _) (px_n (1 : Int32) (by decide))) (fun v46 => ?_)
    exact r_some (qS_r (qP_i (qI_i rfl) (qM_i hm45)))
def pb_X2_layBest_45  : (Int × zP) → Option (zP ⊕ (Int × zP)) := fun (v15, S16) =>
(p_X2_seatingsInAll S16).bind fun v17 =>
if v17 ≤ v15 then (some (.inl S16))
else ((pald S16 1 1450 0).bind fun v19 =>
if v19 ≤ 0 then (some (.inl S16))
else ((p_X2_layRow S16 v15).bind fun S20 =>
(p_X2_spiteOfRow S20).bind fun v21 =>
zlt (S20 0 30) fun v22 =>
((if v21 ≤ v22 then (zlt (S20 0 30) fun v25 =>
some (v25))
else (some (v21)) : Option Int)).bind fun v24 =>
zlt (pup S20 0 30 v24) fun S26 =>
zlt (S26 0 28) fun v27 =>
((if v21 = v27 then (zlt (S26 0 29) fun v30 =>
p32 (v30 + 1) fun x1 =>
zlt (pup S26 0 29 x1) fun S31 =>
some (S31))
else (some (S26)) : Option zP)).bind fun S29 =>
zlt (S29 0 28) fun v32 =>
if v21 < v32 then (zlt (pup S29 0 28 v21) fun S33 =>
zlt (pup S33 0 29 1) fun S34 =>
(zLoop pb_X2_layBest_133 zFuel (0, S34)).bind fun S36 =>
p32 (v15 + 1) fun v47 =>
some (.inr (v47, S36)))
else (p32 (v15 + 1) fun v48 =>
some (.inr (v48, S29)))))
set_option maxHeartbeats 4000000 in
theorem rb_X2_layBest_45 {g : zGd} {M : Nat} {m0 : zMm} (hL : pLM g (zR m0) M)  : ∀ s t, (qP qI (qM (bM M) m0)) s t → pRf (qS (qM (bM M) m0) (qP qI (qM (bM M) m0))) (pb_X2_layBest_45 s) (b_X2_layBest_45 g (some ((bM M).1 + 0)) t) := by
  rintro ⟨pv15, S16⟩ ⟨v15, m16⟩ ⟨ev15, ⟨em16, hm16⟩⟩
  change pv15 = v15.toInt at ev15; subst ev15
  change S16 = pI (bM M) m16 at em16; subst em16
  unfold pb_X2_layBest_45 b_X2_layBest_45
  try dsimp only
  refine r_bind (A := qI) (r_rc (B := (bM M)) (c := 0) (lm_o hL) (rf_X2_seatingsInAll hL hm16)) ?_
  rintro pv17 v17 ev17
  change pv17 = v17.toInt at ev17; subst ev17
  refine r_ite (pc_le rfl rfl) ?_ ?_
  · exact r_some (qS_l (qM_i hm16))
  · refine r_gr (d := 1) hm16 (lm_o hL) (lm_f0 hL) ?_
    refine r_ald (lm_k1 hL) (eI (0 : Int32) (by decide)) (fun _ => rfl) (fun v19 => ?_)
    refine r_ite (pc_le rfl (eI (0 : Int32) (by decide))) ?_ ?_
    · exact r_some (qS_l (qM_i hm16))
    · refine r_bind (A := (qM (bM M) m0)) (r_rc (B := (bM M)) (c := 0) (lm_o hL) (rf_X2_layRow hL hm16 rfl)) ?_
      rintro S20 m20 ⟨em20, hm20⟩
      change S20 = pI (bM M) m20 at em20; subst em20
      refine r_bind (A := qI) (r_rc (B := (bM M)) (c := 0) (lm_o hL) (rf_X2_spiteOfRow hL hm20)) ?_
      rintro pv21 v21 ev21
      change pv21 = v21.toInt at ev21; subst ev21
      refine r_gi (B := (bM M)) (c := 0) (i := 30) (lm_o hL) rfl rfl (fun v22 => ?_)
      refine r_bind (A := qI) ?_ ?_
      · refine r_ite (pc_le rfl rfl) ?_ ?_
        · refine r_gi (B := (bM M)) (c := 0) (i := 30) (lm_o hL) rfl rfl (fun v25 => ?_)
          exact r_some (qI_i rfl)
        · exact r_some (qI_i rfl)
      rintro pv24 v24 ev24
      change pv24 = v24.toInt at ev24; subst ev24
      refine r_pi (B := (bM M)) (c := 0) (i := 30) hm20 (lm_o hL) hL.1 (wM (by omega)) rfl rfl rfl (fun m26 hm26 => ?_)
      refine r_gi (B := (bM M)) (c := 0) (i := 28) (lm_o hL) rfl rfl (fun v27 => ?_)
      refine r_bind (A := (qM (bM M) m0)) ?_ ?_
      · refine r_ite (pc_eq rfl rfl) ?_ ?_
        · refine r_gi (B := (bM M)) (c := 0) (i := 29) (lm_o hL) rfl rfl (fun v30 => ?_)
          refine r_p32 (px_add (px_v _) (px_n (1 : Int32) (by decide))) ?_
          refine r_pi (B := (bM M)) (c := 0) (i := 29) hm26 (lm_o hL) hL.1 (wM (by omega)) rfl rfl rfl (fun m31 hm31 => ?_)
          exact r_some (qM_i hm31)
        · exact r_some (qM_i hm26)
      rintro S29 m29 ⟨em29, hm29⟩
      change S29 = pI (bM M) m29 at em29; subst em29
      refine r_gi (B := (bM M)) (c := 0) (i := 28) (lm_o hL) rfl rfl (fun v32 => ?_)
      refine r_ite (pc_lt rfl rfl) ?_ ?_
      · refine r_pi (B := (bM M)) (c := 0) (i := 28) hm29 (lm_o hL) hL.1 (wM (by omega)) rfl rfl rfl (fun m33 hm33 => ?_)
        refine r_pi (B := (bM M)) (c := 0) (i := 29) hm33 (lm_o hL) hL.1 (wM (by omega)) rfl rfl (eI (1 : Int32) (by decide)) (fun m34 hm34 => ?_)
        refine r_bind (A := (qM (bM M) m0)) (r_loop (rb_X2_layBest_133 hL) zFuel _ _ (qP_i (qI_i (eI (0 : Int32) (by decide))) (qM_i hm34))) ?_
        rintro S36 m36 ⟨em36, hm36⟩
        change S36 = pI (bM M) m36 at em36; subst em36
        refine r_lt32 (px_add (px_v _) (px_n (1 : Int32) (by decide))) (fun v47 => ?_)
        exact r_some (qS_r (qP_i (qI_i rfl) (qM_i hm36)))
      · refine r_lt32 (px_add (px_v _) (px_n (1 : Int32) (by decide))) (fun v48 => ?_)
        exact r_some (qS_r (qP_i (qI_i rfl) (qM_i hm29)))
def p_X2_layBest (S : zP) : Option zP :=
(pald S 1 1450 0).bind fun v2 =>
((if v2 = 0 then (some (0))
else (some (1000000)) : Option Int)).bind fun v4 =>
zlt (pup S 0 28 v4) fun S5 =>
(pald S5 1 1450 0).bind fun v7 =>
((if v7 = 0 then (some (1))
else (some (0)) : Option Int)).bind fun v9 =>
zlt (pup S5 0 29 v9) fun S10 =>
zlt (pup S10 0 30 0) fun S11 =>
(zLoop pb_X2_layBest_45 zFuel (0, S11)).bind fun S13 =>
some (S13)
set_option maxHeartbeats 4000000 in
theorem rf_X2_layBest {g : zGd} {M : Nat} {m0 : zMm} (hL : pLM g (zR m0) M) {m : zMm} (hm : pOk (bM M) m0 m) : pRf (qM (bM M) m0) (p_X2_layBest (pI (bM M) m)) (f_X2_layBest g m (some ((bM M).1 + 0))) := by
  unfold p_X2_layBest f_X2_layBest
  refine r_gr (d := 1) hm (lm_o hL) (lm_f0 hL) ?_
  refine r_ald (lm_k1 hL) (eI (0 : Int32) (by decide)) (fun _ => rfl) (fun v2 => ?_)
  refine r_bind (A := qI) ?_ ?_
  · refine r_ite (pc_eq rfl (eI (0 : Int32) (by decide))) ?_ ?_
    · exact r_some (qI_i (eI (0 : Int32) (by decide)))
    · exact r_some (qI_i (eI (1000000 : Int32) (by decide)))
  rintro pv4 v4 ev4
  change pv4 = v4.toInt at ev4; subst ev4
  refine r_pi (B := (bM M)) (c := 0) (i := 28) hm (lm_o hL) hL.1 (wM (by omega)) rfl rfl rfl (fun m5 hm5 => ?_)
  refine r_gr (d := 1) hm5 (lm_o hL) (lm_f0 hL) ?_
  refine r_ald (lm_k1 hL) (eI (0 : Int32) (by decide)) (fun _ => rfl) (fun v7 => ?_)
  refine r_bind (A := qI) ?_ ?_
  · refine r_ite (pc_eq rfl (eI (0 : Int32) (by decide))) ?_ ?_
    · exact r_some (qI_i (eI (1 : Int32) (by decide)))
    · exact r_some (qI_i (eI (0 : Int32) (by decide)))
  rintro pv9 v9 ev9
  change pv9 = v9.toInt at ev9; subst ev9
  refine r_pi (B := (bM M)) (c := 0) (i := 29) hm5 (lm_o hL) hL.1 (wM (by omega)) rfl rfl rfl (fun m10 hm10 => ?_)
  refine r_pi (B := (bM M)) (c := 0) (i := 30) hm10 (lm_o hL) hL.1 (wM (by omega)) rfl rfl (eI (0 : Int32) (by decide)) (fun m11 hm11 => ?_)
  refine r_bind (A := (qM (bM M) m0)) (r_loop (rb_X2_layBest_45 hL) zFuel _ _ (qP_i (qI_i (eI (0 : Int32) (by decide))) (qM_i hm11))) ?_
  rintro S13 m13 ⟨em13, hm13⟩
  change S13 = pI (bM M) m13 at em13; subst em13
  exact r_some (qM_i hm13)
def p_X2_round (S : zP) (a1 : Int) : Option (Int × zP) :=
(p_X2_layBest S).bind fun S1 =>
if a1 = 0 then (zlt (S1 0 30) fun v2 =>
some ((v2, S1)))
else (zlt (S1 0 28) fun v3 =>
some ((v3, S1)))
set_option maxHeartbeats 4000000 in
theorem rf_X2_round {g : zGd} {M : Nat} {m0 : zMm} (hL : pLM g (zR m0) M) {m : zMm} (hm : pOk (bM M) m0 m) {pa1 : Int} {a1 : Int32} (ea1 : pa1 = a1.toInt) : pRf (qP qI (qM (bM M) m0)) (p_X2_round (pI (bM M) m) pa1) (f_X2_round g m (some ((bM M).1 + 0)) a1) := by
  subst ea1
  unfold p_X2_round f_X2_round
  refine r_bind (A := (qM (bM M) m0)) (r_rc (B := (bM M)) (c := 0) (lm_o hL) (rf_X2_layBest hL hm)) ?_
  rintro S1 m1 ⟨em1, hm1⟩
  change S1 = pI (bM M) m1 at em1; subst em1
  refine r_ite (pc_eq rfl (eI (0 : Int32) (by decide))) ?_ ?_
  · refine r_gi (B := (bM M)) (c := 0) (i := 30) (lm_o hL) rfl rfl (fun v2 => ?_)
    exact r_some (qP_i (qI_i rfl) (qM_i hm1))
  · refine r_gi (B := (bM M)) (c := 0) (i := 28) (lm_o hL) rfl rfl (fun v3 => ?_)
    exact r_some (qP_i (qI_i rfl) (qM_i hm1))
def p_X2_seating (S : zP) (a1 : Int) : Option (Int × zP) :=
(p_X2_isKin S a1).bind fun v1 =>
if v1 = 0 then (some (((-1), S)))
else ((p_X2_layBest S).bind fun S2 =>
(pald S2 11 6 a1).bind fun v4 =>
some ((v4, S2)))
set_option maxHeartbeats 4000000 in
theorem rf_X2_seating {g : zGd} {M : Nat} {m0 : zMm} (hL : pLM g (zR m0) M) {m : zMm} (hm : pOk (bM M) m0 m) {pa1 : Int} {a1 : Int32} (ea1 : pa1 = a1.toInt) : pRf (qP qI (qM (bM M) m0)) (p_X2_seating (pI (bM M) m) pa1) (f_X2_seating g m (some ((bM M).1 + 0)) a1) := by
  subst ea1
  unfold p_X2_seating f_X2_seating
  refine r_bind (A := qI) (r_rc (B := (bM M)) (c := 0) (lm_o hL) (rf_X2_isKin hL hm rfl)) ?_
  rintro pv1 v1 ev1
  change pv1 = v1.toInt at ev1; subst ev1
  refine r_ite (pc_eq rfl (eI (0 : Int32) (by decide))) ?_ ?_
  · exact r_some (qP_i (qI_i (eI (-1 : Int32) (by decide))) (qM_i hm))
  · refine r_bind (A := (qM (bM M) m0)) (r_rc (B := (bM M)) (c := 0) (lm_o hL) (rf_X2_layBest hL hm)) ?_
    rintro S2 m2 ⟨em2, hm2⟩
    change S2 = pI (bM M) m2 at em2; subst em2
    refine r_gr (d := 11) hm2 (lm_o hL) (lm_f27 hL) ?_
    refine r_ald (lm_k11 hL) rfl (fun _ => rfl) (fun v4 => ?_)
    exact r_some (qP_i (qI_i rfl) (qM_i hm2))
def p_X2_seatings (S : zP) : Option (Int × zP) :=
(p_X2_layBest S).bind fun S1 =>
zlt (S1 0 29) fun v2 =>
some ((v2, S1))
set_option maxHeartbeats 4000000 in
theorem rf_X2_seatings {g : zGd} {M : Nat} {m0 : zMm} (hL : pLM g (zR m0) M) {m : zMm} (hm : pOk (bM M) m0 m) : pRf (qP qI (qM (bM M) m0)) (p_X2_seatings (pI (bM M) m)) (f_X2_seatings g m (some ((bM M).1 + 0))) := by
  unfold p_X2_seatings f_X2_seatings
  refine r_bind (A := (qM (bM M) m0)) (r_rc (B := (bM M)) (c := 0) (lm_o hL) (rf_X2_layBest hL hm)) ?_
  rintro S1 m1 ⟨em1, hm1⟩
  change S1 = pI (bM M) m1 at em1; subst em1
  refine r_gi (B := (bM M)) (c := 0) (i := 29) (lm_o hL) rfl rfl (fun v2 => ?_)
  exact r_some (qP_i (qI_i rfl) (qM_i hm1))
def pb_X2_spiteOfSeats_2  : (Int × zP) → Option (zP ⊕ (Int × zP)) := fun (v4, S5) =>
(pald S5 1 1450 0).bind fun v7 =>
if v7 ≤ v4 then (some (.inl S5))
else (p32 (17 + v4) fun x1 =>
(pald S5 1 1450 x1).bind fun v10 =>
(past S5 10 6 v10 v4).bind fun S11 =>
p32 (v4 + 1) fun v12 =>
some (.inr (v12, S11)))
set_option maxHeartbeats 4000000 in
theorem rb_X2_spiteOfSeats_2 {g : zGd} {M : Nat} {m0 : zMm} (hL : pLM g (zR m0) M)  : ∀ s t, (qP qI (qM (bM M) m0)) s t → pRf (qS (qM (bM M) m0) (qP qI (qM (bM M) m0))) (pb_X2_spiteOfSeats_2 s) (b_X2_spiteOfSeats_2 g (some ((bM M).1 + 0)) t) := by
  rintro ⟨pv4, S5⟩ ⟨v4, m5⟩ ⟨ev4, ⟨em5, hm5⟩⟩
  change pv4 = v4.toInt at ev4; subst ev4
  change S5 = pI (bM M) m5 at em5; subst em5
  unfold pb_X2_spiteOfSeats_2 b_X2_spiteOfSeats_2
  try dsimp only
  refine r_gr (d := 1) hm5 (lm_o hL) (lm_f0 hL) ?_
  refine r_ald (lm_k1 hL) (eI (0 : Int32) (by decide)) (fun _ => rfl) (fun v7 => ?_)
  refine r_ite (pc_le rfl rfl) ?_ ?_
  · exact r_some (qS_l (qM_i hm5))
  · refine r_gr (d := 10) hm5 (lm_o hL) (lm_f26 hL) ?_
    refine r_gr (d := 1) hm5 (lm_o hL) (lm_f0 hL) ?_
    refine r_p32 (px_add (px_n (17 : Int32) (by decide)) (px_v _)) ?_
    refine r_ald (lm_k1 hL) rfl (fun _ => rfl) (fun v10 => ?_)
    refine r_ast hm5 (lm_k10 hL) hL.1 (wM (by omega)) rfl rfl (fun _ => rfl) (fun m11 hm11 => ?_)
    refine r_lt32 (px_add (px_v _) (px_n (1 : Int32) (by decide))) (fun v12 => ?_)
    exact r_some (qS_r (qP_i (qI_i rfl) (qM_i hm11)))
def p_X2_spiteOfSeats (S : zP) : Option (Int × zP) :=
(zLoop pb_X2_spiteOfSeats_2 zFuel (0, S)).bind fun S2 =>
(p_X2_spiteOfRow S2).bind fun v13 =>
some ((v13, S2))
set_option maxHeartbeats 4000000 in
theorem rf_X2_spiteOfSeats {g : zGd} {M : Nat} {m0 : zMm} (hL : pLM g (zR m0) M) {m : zMm} (hm : pOk (bM M) m0 m) : pRf (qP qI (qM (bM M) m0)) (p_X2_spiteOfSeats (pI (bM M) m)) (f_X2_spiteOfSeats g m (some ((bM M).1 + 0))) := by
  unfold p_X2_spiteOfSeats f_X2_spiteOfSeats
  refine r_bind (A := (qM (bM M) m0)) (r_loop (rb_X2_spiteOfSeats_2 hL) zFuel _ _ (qP_i (qI_i (eI (0 : Int32) (by decide))) (qM_i hm))) ?_
  rintro S2 m2 ⟨em2, hm2⟩
  change S2 = pI (bM M) m2 at em2; subst em2
  refine r_bind (A := qI) (r_rc (B := (bM M)) (c := 0) (lm_o hL) (rf_X2_spiteOfRow hL hm2)) ?_
  rintro pv13 v13 ev13
  change pv13 = v13.toInt at ev13; subst ev13
  exact r_some (qP_i (qI_i rfl) (qM_i hm2))
def p_X2_spiteNow (S : zP) : Option (Int × zP) :=
(p_X2_spiteOfSeats S).bind fun (v1, S2) =>
some ((v1, S2))
set_option maxHeartbeats 4000000 in
theorem rf_X2_spiteNow {g : zGd} {M : Nat} {m0 : zMm} (hL : pLM g (zR m0) M) {m : zMm} (hm : pOk (bM M) m0 m) : pRf (qP qI (qM (bM M) m0)) (p_X2_spiteNow (pI (bM M) m)) (f_X2_spiteNow g m (some ((bM M).1 + 0))) := by
  unfold p_X2_spiteNow f_X2_spiteNow
  refine r_bind (A := (qP qI (qM (bM M) m0))) (r_rc (B := (bM M)) (c := 0) (lm_o hL) (rf_X2_spiteOfSeats hL hm)) ?_
  rintro ⟨pv1, S2⟩ ⟨v1, m2⟩ ⟨ev1, ⟨em2, hm2⟩⟩
  change pv1 = v1.toInt at ev1; subst ev1
  change S2 = pI (bM M) m2 at em2; subst em2
  exact r_some (qP_i (qI_i rfl) (qM_i hm2))
def pb_X2_mend_38 (v11 : Int) : (Int × (Int × (Int × zP))) → Option ((Int × (Int × zP)) ⊕ (Int × (Int × (Int × zP)))) := fun (v21, v22, v23, S24) =>
(pald S24 1 1450 0).bind fun v26 =>
if v26 ≤ v23 then (some (.inl (v21, v22, S24)))
else ((p_X2_swapNow S24 v11 v23).bind fun S27 =>
(p_X2_spiteOfSeats S27).bind fun (v28, S29) =>
(p_X2_swapNow S29 v11 v23).bind fun S30 =>
if v28 < v21 then (p32 ((6 * v11) + v23) fun v31 =>
p32 (v23 + 1) fun v32 =>
some (.inr (v28, v31, v32, S30)))
else (p32 (v23 + 1) fun v33 =>
some (.inr (v21, v22, v33, S30))))
set_option maxHeartbeats 4000000 in
theorem rb_X2_mend_38 {g : zGd} {M : Nat} {m0 : zMm} (hL : pLM g (zR m0) M) {pv11 : Int} {v11 : Int32} (ev11 : pv11 = v11.toInt) : ∀ s t, (qP qI (qP qI (qP qI (qM (bM M) m0)))) s t → pRf (qS (qP qI (qP qI (qM (bM M) m0))) (qP qI (qP qI (qP qI (qM (bM M) m0))))) (pb_X2_mend_38 pv11 s) (b_X2_mend_38 g (some ((bM M).1 + 0)) v11 t) := by
  subst ev11
  rintro ⟨pv21, pv22, pv23, S24⟩ ⟨v21, v22, v23, m24⟩ ⟨ev21, ev22, ev23, ⟨em24, hm24⟩⟩
  change pv21 = v21.toInt at ev21; subst ev21
  change pv22 = v22.toInt at ev22; subst ev22
  change pv23 = v23.toInt at ev23; subst ev23
  change S24 = pI (bM M) m24 at em24; subst em24
  unfold pb_X2_mend_38 b_X2_mend_38
  try dsimp only
  refine r_gr (d := 1) hm24 (lm_o hL) (lm_f0 hL) ?_
  refine r_ald (lm_k1 hL) (eI (0 : Int32) (by decide)) (fun _ => rfl) (fun v26 => ?_)
  refine r_ite (pc_le rfl rfl) ?_ ?_
  · exact r_some (qS_l (qP_i (qI_i rfl) (qP_i (qI_i rfl) (qM_i hm24))))
  · refine r_bind (A := (qM (bM M) m0)) (r_rc (B := (bM M)) (c := 0) (lm_o hL) (rf_X2_swapNow hL hm24 rfl rfl)) ?_
    rintro S27 m27 ⟨em27, hm27⟩
    change S27 = pI (bM M) m27 at em27; subst em27
    refine r_bind (A := (qP qI (qM (bM M) m0))) (r_rc (B := (bM M)) (c := 0) (lm_o hL) (rf_X2_spiteOfSeats hL hm27)) ?_
    rintro ⟨pv28, S29⟩ ⟨v28, m29⟩ ⟨ev28, ⟨em29, hm29⟩⟩
    change pv28 = v28.toInt at ev28; subst ev28
    change S29 = pI (bM M) m29 at em29; subst em29
    refine r_bind (A := (qM (bM M) m0)) (r_rc (B := (bM M)) (c := 0) (lm_o hL) (rf_X2_swapNow hL hm29 rfl rfl)) ?_
    rintro S30 m30 ⟨em30, hm30⟩
    change S30 = pI (bM M) m30 at em30; subst em30
    refine r_ite (pc_lt rfl rfl) ?_ ?_
    · refine r_lt32 (px_add (px_mul (px_n (6 : Int32) (by decide)) (px_v _)) (px_v _)) (fun v31 => ?_)
      refine r_lt32 (px_add (px_v _) (px_n (1 : Int32) (by decide))) (fun v32 => ?_)
      exact r_some (qS_r (qP_i (qI_i rfl) (qP_i (qI_i rfl) (qP_i (qI_i rfl) (qM_i hm30)))))
    · refine r_lt32 (px_add (px_v _) (px_n (1 : Int32) (by decide))) (fun v33 => ?_)
      exact r_some (qS_r (qP_i (qI_i rfl) (qP_i (qI_i rfl) (qP_i (qI_i rfl) (qM_i hm30)))))
def pb_X2_mend_21  : (Int × (Int × (Int × zP))) → Option ((Int × (Int × zP)) ⊕ (Int × (Int × (Int × zP)))) := fun (v9, v10, v11, S12) =>
(pald S12 1 1450 0).bind fun v14 =>
if v14 ≤ v11 then (some (.inl (v9, v10, S12)))
else (p32 (v11 + 1) fun v15 =>
(zLoop (pb_X2_mend_38 v11) zFuel (v9, v10, v15, S12)).bind fun (v17, v18, S19) =>
p32 (v11 + 1) fun v34 =>
some (.inr (v17, v18, v34, S19)))
set_option maxHeartbeats 4000000 in
theorem rb_X2_mend_21 {g : zGd} {M : Nat} {m0 : zMm} (hL : pLM g (zR m0) M)  : ∀ s t, (qP qI (qP qI (qP qI (qM (bM M) m0)))) s t → pRf (qS (qP qI (qP qI (qM (bM M) m0))) (qP qI (qP qI (qP qI (qM (bM M) m0))))) (pb_X2_mend_21 s) (b_X2_mend_21 g (some ((bM M).1 + 0)) t) := by
  rintro ⟨pv9, pv10, pv11, S12⟩ ⟨v9, v10, v11, m12⟩ ⟨ev9, ev10, ev11, ⟨em12, hm12⟩⟩
  change pv9 = v9.toInt at ev9; subst ev9
  change pv10 = v10.toInt at ev10; subst ev10
  change pv11 = v11.toInt at ev11; subst ev11
  change S12 = pI (bM M) m12 at em12; subst em12
  unfold pb_X2_mend_21 b_X2_mend_21
  try dsimp only
  refine r_gr (d := 1) hm12 (lm_o hL) (lm_f0 hL) ?_
  refine r_ald (lm_k1 hL) (eI (0 : Int32) (by decide)) (fun _ => rfl) (fun v14 => ?_)
  refine r_ite (pc_le rfl rfl) ?_ ?_
  · exact r_some (qS_l (qP_i (qI_i rfl) (qP_i (qI_i rfl) (qM_i hm12))))
  · refine r_lt32 (px_add (px_v _) (px_n (1 : Int32) (by decide))) (fun v15 => ?_)
    refine r_bind (A := (qP qI (qP qI (qM (bM M) m0)))) (r_loop (rb_X2_mend_38 hL rfl) zFuel _ _ (qP_i (qI_i rfl) (qP_i (qI_i rfl) (qP_i (qI_i rfl) (qM_i hm12))))) ?_
    rintro ⟨pv17, pv18, S19⟩ ⟨v17, v18, m19⟩ ⟨ev17, ev18, ⟨em19, hm19⟩⟩
    change pv17 = v17.toInt at ev17; subst ev17
    change pv18 = v18.toInt at ev18; subst ev18
    change S19 = pI (bM M) m19 at em19; subst em19
    refine r_lt32 (px_add (px_v _) (px_n (1 : Int32) (by decide))) (fun v34 => ?_)
    exact r_some (qS_r (qP_i (qI_i rfl) (qP_i (qI_i rfl) (qP_i (qI_i rfl) (qM_i hm19)))))
def p_X2_mend (S : zP) (a1 : Int) : Option (Int × zP) :=
(p_X2_isIn a1 0 2).bind fun v1 =>
if v1 = 0 then (some (((-1), S)))
else ((p_X2_spiteOfSeats S).bind fun (v2, S3) =>
(zLoop pb_X2_mend_21 zFuel (v2, (-1), 0, S3)).bind fun (v5, v6, S7) =>
if v6 = (-1) then (some (((-1), S7)))
else (if a1 = 0 then (zlt (pdv v6 6) fun x1 =>
some ((x1, S7)))
else (if a1 = 1 then (zlt (prm v6 6) fun x2 =>
some ((x2, S7)))
else (some ((v5, S7))))))
set_option maxHeartbeats 4000000 in
theorem rf_X2_mend {g : zGd} {M : Nat} {m0 : zMm} (hL : pLM g (zR m0) M) {m : zMm} (hm : pOk (bM M) m0 m) {pa1 : Int} {a1 : Int32} (ea1 : pa1 = a1.toInt) : pRf (qP qI (qM (bM M) m0)) (p_X2_mend (pI (bM M) m) pa1) (f_X2_mend g m (some ((bM M).1 + 0)) a1) := by
  subst ea1
  unfold p_X2_mend f_X2_mend
  refine r_bind (A := qI) (rf_X2_isIn rfl (eI (0 : Int32) (by decide)) (eI (2 : Int32) (by decide))) ?_
  rintro pv1 v1 ev1
  change pv1 = v1.toInt at ev1; subst ev1
  refine r_ite (pc_eq rfl (eI (0 : Int32) (by decide))) ?_ ?_
  · exact r_some (qP_i (qI_i (eI (-1 : Int32) (by decide))) (qM_i hm))
  · refine r_bind (A := (qP qI (qM (bM M) m0))) (r_rc (B := (bM M)) (c := 0) (lm_o hL) (rf_X2_spiteOfSeats hL hm)) ?_
    rintro ⟨pv2, S3⟩ ⟨v2, m3⟩ ⟨ev2, ⟨em3, hm3⟩⟩
    change pv2 = v2.toInt at ev2; subst ev2
    change S3 = pI (bM M) m3 at em3; subst em3
    refine r_bind (A := (qP qI (qP qI (qM (bM M) m0)))) (r_loop (rb_X2_mend_21 hL) zFuel _ _ (qP_i (qI_i rfl) (qP_i (qI_i (eI (-1 : Int32) (by decide))) (qP_i (qI_i (eI (0 : Int32) (by decide))) (qM_i hm3))))) ?_
    rintro ⟨pv5, pv6, S7⟩ ⟨v5, v6, m7⟩ ⟨ev5, ev6, ⟨em7, hm7⟩⟩
    change pv5 = v5.toInt at ev5; subst ev5
    change pv6 = v6.toInt at ev6; subst ev6
    change S7 = pI (bM M) m7 at em7; subst em7
    refine r_ite (pc_eq rfl (eI (-1 : Int32) (by decide))) ?_ ?_
    · exact r_some (qP_i (qI_i (eI (-1 : Int32) (by decide))) (qM_i hm7))
    · refine r_ite (pc_eq rfl (eI (0 : Int32) (by decide))) ?_ ?_
      · refine r_x32 (pe_dv (by decide) rfl (eI (6 : Int32) (by decide))) ?_
        exact r_some (qP_i (qI_i rfl) (qM_i hm7))
      · refine r_ite (pc_eq rfl (eI (1 : Int32) (by decide))) ?_ ?_
        · refine r_x32 (pe_rm (by decide) rfl (eI (6 : Int32) (by decide))) ?_
          exact r_some (qP_i (qI_i rfl) (qM_i hm7))
        · exact r_some (qP_i (qI_i rfl) (qM_i hm7))
def p_X2_hedge (S : zP) (a1 : Int) (a2 : Int) : Option (Int × zP) :=
(p_X2_isIn a1 0 35).bind fun v1 =>
if v1 = 0 then (some ((0, S)))
else ((p_X2_isIn a2 0 3).bind fun v2 =>
if v2 = 0 then (some ((0, S)))
else (p32 (71 + a1) fun x1 =>
(past S 1 1450 x1 a2).bind fun S4 =>
some ((1, S4))))
set_option maxHeartbeats 4000000 in
theorem rf_X2_hedge {g : zGd} {M : Nat} {m0 : zMm} (hL : pLM g (zR m0) M) {m : zMm} (hm : pOk (bM M) m0 m) {pa1 : Int} {a1 : Int32} (ea1 : pa1 = a1.toInt) {pa2 : Int} {a2 : Int32} (ea2 : pa2 = a2.toInt) : pRf (qP qI (qM (bM M) m0)) (p_X2_hedge (pI (bM M) m) pa1 pa2) (f_X2_hedge g m (some ((bM M).1 + 0)) a1 a2) := by
  subst ea1
  subst ea2
  unfold p_X2_hedge f_X2_hedge
  refine r_bind (A := qI) (rf_X2_isIn rfl (eI (0 : Int32) (by decide)) (eI (35 : Int32) (by decide))) ?_
  rintro pv1 v1 ev1
  change pv1 = v1.toInt at ev1; subst ev1
  refine r_ite (pc_eq rfl (eI (0 : Int32) (by decide))) ?_ ?_
  · exact r_some (qP_i (qI_i (eI (0 : Int32) (by decide))) (qM_i hm))
  · refine r_bind (A := qI) (rf_X2_isIn rfl (eI (0 : Int32) (by decide)) (eI (3 : Int32) (by decide))) ?_
    rintro pv2 v2 ev2
    change pv2 = v2.toInt at ev2; subst ev2
    refine r_ite (pc_eq rfl (eI (0 : Int32) (by decide))) ?_ ?_
    · exact r_some (qP_i (qI_i (eI (0 : Int32) (by decide))) (qM_i hm))
    · refine r_gr (d := 1) hm (lm_o hL) (lm_f0 hL) ?_
      refine r_p32 (px_add (px_n (71 : Int32) (by decide)) (px_v _)) ?_
      refine r_ast hm (lm_k1 hL) hL.1 (wM (by omega)) rfl rfl (fun _ => rfl) (fun m4 hm4 => ?_)
      exact r_some (qP_i (qI_i (eI (1 : Int32) (by decide))) (qM_i hm4))
def p_X2_isFlight (a0 : Int) (a1 : Int) : Option Int :=
(p_X2_isIn a0 0 35).bind fun v1 =>
if v1 = 0 then (some (0))
else ((p_X2_isIn a1 0 3).bind fun v2 =>
if v2 = 0 then (some (0))
else (some (1)))
set_option maxHeartbeats 4000000 in
theorem rf_X2_isFlight {pa0 : Int} {a0 : Int32} (ea0 : pa0 = a0.toInt) {pa1 : Int} {a1 : Int32} (ea1 : pa1 = a1.toInt) : pRf qI (p_X2_isFlight pa0 pa1) (f_X2_isFlight a0 a1) := by
  subst ea0
  subst ea1
  unfold p_X2_isFlight f_X2_isFlight
  refine r_bind (A := qI) (rf_X2_isIn rfl (eI (0 : Int32) (by decide)) (eI (35 : Int32) (by decide))) ?_
  rintro pv1 v1 ev1
  change pv1 = v1.toInt at ev1; subst ev1
  refine r_ite (pc_eq rfl (eI (0 : Int32) (by decide))) ?_ ?_
  · exact r_some (qI_i (eI (0 : Int32) (by decide)))
  · refine r_bind (A := qI) (rf_X2_isIn rfl (eI (0 : Int32) (by decide)) (eI (3 : Int32) (by decide))) ?_
    rintro pv2 v2 ev2
    change pv2 = v2.toInt at ev2; subst ev2
    refine r_ite (pc_eq rfl (eI (0 : Int32) (by decide))) ?_ ?_
    · exact r_some (qI_i (eI (0 : Int32) (by decide)))
    · exact r_some (qI_i (eI (1 : Int32) (by decide)))
def p_X2_nextBy (a0 : Int) (a1 : Int) : Option Int :=
((if a1 = 0 then (some ((-1)))
else (if a1 = 2 then (some (1))
else (some (0))) : Option Int)).bind fun v2 =>
p32 ((pdv a0 6) + v2) fun v3 =>
((if a1 = 1 then (some (1))
else (if a1 = 3 then (some ((-1)))
else (some (0))) : Option Int)).bind fun v5 =>
p32 ((prm a0 6) + v5) fun v6 =>
(p_X2_isIn v3 0 5).bind fun v7 =>
if v7 = 0 then (some ((-1)))
else ((p_X2_isIn v6 0 5).bind fun v8 =>
if v8 = 0 then (some ((-1)))
else (p32 ((6 * v3) + v6) fun x1 =>
some (x1)))
set_option maxHeartbeats 4000000 in
theorem rf_X2_nextBy {pa0 : Int} {a0 : Int32} (ea0 : pa0 = a0.toInt) {pa1 : Int} {a1 : Int32} (ea1 : pa1 = a1.toInt) : pRf qI (p_X2_nextBy pa0 pa1) (f_X2_nextBy a0 a1) := by
  subst ea0
  subst ea1
  unfold p_X2_nextBy f_X2_nextBy
  refine r_bind (A := qI) ?_ ?_
  · refine r_ite (pc_eq rfl (eI (0 : Int32) (by decide))) ?_ ?_
    · exact r_some (qI_i (eI (-1 : Int32) (by decide)))
    · refine r_ite (pc_eq rfl (eI (2 : Int32) (by decide))) ?_ ?_
      · exact r_some (qI_i (eI (1 : Int32) (by decide)))
      · exact r_some (qI_i (eI (0 : Int32) (by decide)))
  rintro pv2 v2 ev2
  change pv2 = v2.toInt at ev2; subst ev2
  refine r_lt32 (px_add (px_e (pe_dv (by decide) rfl (eI (6 : Int32) (by decide)))) (px_v _)) (fun v3 => ?_)
  refine r_bind (A := qI) ?_ ?_
  · refine r_ite (pc_eq rfl (eI (1 : Int32) (by decide))) ?_ ?_
    · exact r_some (qI_i (eI (1 : Int32) (by decide)))
    · refine r_ite (pc_eq rfl (eI (3 : Int32) (by decide))) ?_ ?_
      · exact r_some (qI_i (eI (-1 : Int32) (by decide)))
      · exact r_some (qI_i (eI (0 : Int32) (by decide)))
  rintro pv5 v5 ev5
  change pv5 = v5.toInt at ev5; subst ev5
  refine r_lt32 (px_add (px_e (pe_rm (by decide) rfl (eI (6 : Int32) (by decide)))) (px_v _)) (fun v6 => ?_)
  refine r_bind (A := qI) (rf_X2_isIn rfl (eI (0 : Int32) (by decide)) (eI (5 : Int32) (by decide))) ?_
  rintro pv7 v7 ev7
  change pv7 = v7.toInt at ev7; subst ev7
  refine r_ite (pc_eq rfl (eI (0 : Int32) (by decide))) ?_ ?_
  · exact r_some (qI_i (eI (-1 : Int32) (by decide)))
  · refine r_bind (A := qI) (rf_X2_isIn rfl (eI (0 : Int32) (by decide)) (eI (5 : Int32) (by decide))) ?_
    rintro pv8 v8 ev8
    change pv8 = v8.toInt at ev8; subst ev8
    refine r_ite (pc_eq rfl (eI (0 : Int32) (by decide))) ?_ ?_
    · exact r_some (qI_i (eI (-1 : Int32) (by decide)))
    · refine r_p32 (px_add (px_mul (px_n (6 : Int32) (by decide)) (px_v _)) (px_v _)) ?_
      exact r_some (qI_i rfl)
def p_X2_turnedBy (a0 : Int) (a1 : Int) : Option Int :=
if a0 = 0 then (some (a1))
else (if a0 = 1 then (if a1 = 0 then (some (1))
else (if a1 = 1 then (some (0))
else (if a1 = 2 then (some (3))
else (some (2)))))
else (p32 (3 - a1) fun x1 =>
some (x1)))
set_option maxHeartbeats 4000000 in
theorem rf_X2_turnedBy {pa0 : Int} {a0 : Int32} (ea0 : pa0 = a0.toInt) {pa1 : Int} {a1 : Int32} (ea1 : pa1 = a1.toInt) : pRf qI (p_X2_turnedBy pa0 pa1) (f_X2_turnedBy a0 a1) := by
  subst ea0
  subst ea1
  unfold p_X2_turnedBy f_X2_turnedBy
  refine r_ite (pc_eq rfl (eI (0 : Int32) (by decide))) ?_ ?_
  · exact r_some (qI_i rfl)
  · refine r_ite (pc_eq rfl (eI (1 : Int32) (by decide))) ?_ ?_
    · refine r_ite (pc_eq rfl (eI (0 : Int32) (by decide))) ?_ ?_
      · exact r_some (qI_i (eI (1 : Int32) (by decide)))
      · refine r_ite (pc_eq rfl (eI (1 : Int32) (by decide))) ?_ ?_
        · exact r_some (qI_i (eI (0 : Int32) (by decide)))
        · refine r_ite (pc_eq rfl (eI (2 : Int32) (by decide))) ?_ ?_
          · exact r_some (qI_i (eI (3 : Int32) (by decide)))
          · exact r_some (qI_i (eI (2 : Int32) (by decide)))
    · refine r_p32 (px_sub (px_n (3 : Int32) (by decide)) (px_v _)) ?_
      exact r_some (qI_i rfl)
def pb_X2_isFlown_2  : (Int × zP) → Option (zP ⊕ (Int × zP)) := fun (v4, S5) =>
if 144 ≤ v4 then (some (.inl S5))
else (zlt (pnz 0) fun x1 =>
(past S5 12 144 v4 x1).bind fun S7 =>
p32 (v4 + 1) fun v8 =>
some (.inr (v8, S7)))
set_option maxHeartbeats 4000000 in
theorem rb_X2_isFlown_2 {g : zGd} {M : Nat} {m0 : zMm} (hL : pLM g (zR m0) M)  : ∀ s t, (qP qI (qM (bM M) m0)) s t → pRf (qS (qM (bM M) m0) (qP qI (qM (bM M) m0))) (pb_X2_isFlown_2 s) (b_X2_isFlown_2 g (some ((bM M).1 + 0)) t) := by
  rintro ⟨pv4, S5⟩ ⟨v4, m5⟩ ⟨ev4, ⟨em5, hm5⟩⟩
  change pv4 = v4.toInt at ev4; subst ev4
  change S5 = pI (bM M) m5 at em5; subst em5
  unfold pb_X2_isFlown_2 b_X2_isFlown_2
  try dsimp only
  refine r_ite (pc_le (eI (144 : Int32) (by decide)) rfl) ?_ ?_
  · exact r_some (qS_l (qM_i hm5))
  · refine r_gr (d := 12) hm5 (lm_o hL) (lm_f31 hL) ?_
    refine r_x32 (pe_nz (eI (0 : Int32) (by decide))) ?_
    refine r_ast hm5 (lm_k12 hL) hL.1 (wM (by omega)) rfl rfl (fun _ => rfl) (fun m7 hm7 => ?_)
    refine r_lt32 (px_add (px_v _) (px_n (1 : Int32) (by decide))) (fun v8 => ?_)
    exact r_some (qS_r (qP_i (qI_i rfl) (qM_i hm7)))
def pb_X2_isFlown_42  : zP → Option (((Int × zP) ⊕ zP) ⊕ zP) := fun S16 =>
zlt (S16 0 33) fun v17 =>
zlt (S16 0 35) fun v18 =>
(p_X2_nextBy v17 v18).bind fun v19 =>
if v19 = (-1) then (some (.inl (.inr S16)))
else (zlt (S16 0 33) fun v20 =>
zlt (S16 0 35) fun v21 =>
(p_X2_nextBy v20 v21).bind fun v22 =>
zlt (pup S16 0 33 v22) fun S23 =>
zlt (S23 0 32) fun v24 =>
p32 (v24 + 1) fun x1 =>
zlt (pup S23 0 32 x1) fun S25 =>
zlt (S25 0 33) fun v27 =>
zlt (S25 0 35) fun v28 =>
p32 ((4 * v27) + v28) fun x2 =>
(pald S25 12 144 x2).bind fun v29 =>
if v29 = 0 then (zlt (S25 0 33) fun v31 =>
zlt (S25 0 35) fun v32 =>
p32 ((4 * v31) + v32) fun x3 =>
zlt (pnz 1) fun x4 =>
(past S25 12 144 x3 x4).bind fun S33 =>
zlt (S33 0 33) fun v35 =>
p32 (71 + v35) fun x5 =>
(pald S33 1 1450 x5).bind fun v36 =>
if v36 = 3 then (some (.inl (.inl (1, S33))))
else (zlt (S33 0 34) fun v37 =>
((if v36 ≤ 0 then (some (0))
else (some (1)) : Option Int)).bind fun v39 =>
p32 (v37 + v39) fun x6 =>
zlt (pup S33 0 34 x6) fun S40 =>
zlt (S40 0 35) fun v41 =>
(p_X2_turnedBy v36 v41).bind fun v42 =>
zlt (pup S40 0 35 v42) fun S43 =>
some (.inr S43)))
else (some (.inl (.inl (0, S25)))))
set_option maxHeartbeats 4000000 in
theorem rb_X2_isFlown_42 {g : zGd} {M : Nat} {m0 : zMm} (hL : pLM g (zR m0) M)  : ∀ s t, (qM (bM M) m0) s t → pRf (qS (qS (qP qI (qM (bM M) m0)) (qM (bM M) m0)) (qM (bM M) m0)) (pb_X2_isFlown_42 s) (b_X2_isFlown_42 g (some ((bM M).1 + 0)) t) := by
  rintro S16 m16 ⟨em16, hm16⟩
  change S16 = pI (bM M) m16 at em16; subst em16
  unfold pb_X2_isFlown_42 b_X2_isFlown_42
  try dsimp only
  refine r_gi (B := (bM M)) (c := 0) (i := 33) (lm_o hL) rfl rfl (fun v17 => ?_)
  refine r_gi (B := (bM M)) (c := 0) (i := 35) (lm_o hL) rfl rfl (fun v18 => ?_)
  refine r_bind (A := qI) (rf_X2_nextBy rfl rfl) ?_
  rintro pv19 v19 ev19
  change pv19 = v19.toInt at ev19; subst ev19
  refine r_ite (pc_eq rfl (eI (-1 : Int32) (by decide))) ?_ ?_
  · exact r_some (qS_l (qS_r (qM_i hm16)))
  · refine r_gi (B := (bM M)) (c := 0) (i := 33) (lm_o hL) rfl rfl (fun v20 => ?_)
    refine r_gi (B := (bM M)) (c := 0) (i := 35) (lm_o hL) rfl rfl (fun v21 => ?_)
    refine r_bind (A := qI) (rf_X2_nextBy rfl rfl) ?_
    rintro pv22 v22 ev22
    change pv22 = v22.toInt at ev22; subst ev22
    refine r_pi (B := (bM M)) (c := 0) (i := 33) hm16 (lm_o hL) hL.1 (wM (by omega)) rfl rfl rfl (fun m23 hm23 => ?_)
    refine r_gi (B := (bM M)) (c := 0) (i := 32) (lm_o hL) rfl rfl (fun v24 => ?_)
    refine r_p32 (px_add (px_v _) (px_n (1 : Int32) (by decide))) ?_
    refine r_pi (B := (bM M)) (c := 0) (i := 32) hm23 (lm_o hL) hL.1 (wM (by omega)) rfl rfl rfl (fun m25 hm25 => ?_)
    refine r_gr (d := 12) hm25 (lm_o hL) (lm_f31 hL) ?_
    refine r_gi (B := (bM M)) (c := 0) (i := 33) (lm_o hL) rfl rfl (fun v27 => ?_)
    refine r_gi (B := (bM M)) (c := 0) (i := 35) (lm_o hL) rfl rfl (fun v28 => ?_)
    refine r_p32 (px_add (px_mul (px_n (4 : Int32) (by decide)) (px_v _)) (px_v _)) ?_
    refine r_ald (lm_k12 hL) rfl (fun _ => rfl) (fun v29 => ?_)
    refine r_ite (pc_eq rfl (eI (0 : Int32) (by decide))) ?_ ?_
    · refine r_gr (d := 12) hm25 (lm_o hL) (lm_f31 hL) ?_
      refine r_gi (B := (bM M)) (c := 0) (i := 33) (lm_o hL) rfl rfl (fun v31 => ?_)
      refine r_gi (B := (bM M)) (c := 0) (i := 35) (lm_o hL) rfl rfl (fun v32 => ?_)
      refine r_p32 (px_add (px_mul (px_n (4 : Int32) (by decide)) (px_v _)) (px_v _)) ?_
      refine r_x32 (pe_nz (eI (1 : Int32) (by decide))) ?_
      refine r_ast hm25 (lm_k12 hL) hL.1 (wM (by omega)) rfl rfl (fun _ => rfl) (fun m33 hm33 => ?_)
      refine r_gr (d := 1) hm33 (lm_o hL) (lm_f0 hL) ?_
      refine r_gi (B := (bM M)) (c := 0) (i := 33) (lm_o hL) rfl rfl (fun v35 => ?_)
      refine r_p32 (px_add (px_n (71 : Int32) (by decide)) (px_v _)) ?_
      refine r_ald (lm_k1 hL) rfl (fun _ => rfl) (fun v36 => ?_)
      refine r_ite (pc_eq rfl (eI (3 : Int32) (by decide))) ?_ ?_
      · exact r_some (qS_l (qS_l (qP_i (qI_i (eI (1 : Int32) (by decide))) (qM_i hm33))))
      · refine r_gi (B := (bM M)) (c := 0) (i := 34) (lm_o hL) rfl rfl (fun v37 => ?_)
        refine r_bind (A := qI) ?_ ?_
        · refine r_ite (pc_le rfl (eI (0 : Int32) (by decide))) ?_ ?_
          · exact r_some (qI_i (eI (0 : Int32) (by decide)))
          · exact r_some (qI_i (eI (1 : Int32) (by decide)))
        rintro pv39 v39 ev39
        change pv39 = v39.toInt at ev39; subst ev39
        refine r_p32 (px_add (px_v _) (px_v _)) ?_
        refine r_pi (B := (bM M)) (c := 0) (i := 34) hm33 (lm_o hL) hL.1 (wM (by omega)) rfl rfl rfl (fun m40 hm40 => ?_)
        refine r_gi (B := (bM M)) (c := 0) (i := 35) (lm_o hL) rfl rfl (fun v41 => ?_)
        refine r_bind (A := qI) (rf_X2_turnedBy rfl rfl) ?_
        rintro pv42 v42 ev42
        change pv42 = v42.toInt at ev42; subst ev42
        refine r_pi (B := (bM M)) (c := 0) (i := 35) hm40 (lm_o hL) hL.1 (wM (by omega)) rfl rfl rfl (fun m43 hm43 => ?_)
        exact r_some (qS_r (qM_i hm43))
    · exact r_some (qS_l (qS_l (qP_i (qI_i (eI (0 : Int32) (by decide))) (qM_i hm25))))
def p_X2_isFlown (S : zP) (a1 : Int) (a2 : Int) : Option (Int × zP) :=
(zLoop pb_X2_isFlown_2 zFuel (0, S)).bind fun S2 =>
zlt (pup S2 0 32 0) fun S9 =>
zlt (pup S9 0 33 a1) fun S10 =>
zlt (pup S10 0 34 0) fun S11 =>
zlt (pup S11 0 35 a2) fun S12 =>
zEx (σ := zP) (zLoop pb_X2_isFlown_42 zFuel S12) fun S14 =>
some ((1, S14))
set_option maxHeartbeats 4000000 in
theorem rf_X2_isFlown {g : zGd} {M : Nat} {m0 : zMm} (hL : pLM g (zR m0) M) {m : zMm} (hm : pOk (bM M) m0 m) {pa1 : Int} {a1 : Int32} (ea1 : pa1 = a1.toInt) {pa2 : Int} {a2 : Int32} (ea2 : pa2 = a2.toInt) : pRf (qP qI (qM (bM M) m0)) (p_X2_isFlown (pI (bM M) m) pa1 pa2) (f_X2_isFlown g m (some ((bM M).1 + 0)) a1 a2) := by
  subst ea1
  subst ea2
  unfold p_X2_isFlown f_X2_isFlown
  refine r_bind (A := (qM (bM M) m0)) (r_loop (rb_X2_isFlown_2 hL) zFuel _ _ (qP_i (qI_i (eI (0 : Int32) (by decide))) (qM_i hm))) ?_
  rintro S2 m2 ⟨em2, hm2⟩
  change S2 = pI (bM M) m2 at em2; subst em2
  refine r_pi (B := (bM M)) (c := 0) (i := 32) hm2 (lm_o hL) hL.1 (wM (by omega)) rfl rfl (eI (0 : Int32) (by decide)) (fun m9 hm9 => ?_)
  refine r_pi (B := (bM M)) (c := 0) (i := 33) hm9 (lm_o hL) hL.1 (wM (by omega)) rfl rfl rfl (fun m10 hm10 => ?_)
  refine r_pi (B := (bM M)) (c := 0) (i := 34) hm10 (lm_o hL) hL.1 (wM (by omega)) rfl rfl (eI (0 : Int32) (by decide)) (fun m11 hm11 => ?_)
  refine r_pi (B := (bM M)) (c := 0) (i := 35) hm11 (lm_o hL) hL.1 (wM (by omega)) rfl rfl rfl (fun m12 hm12 => ?_)
  refine r_ex (Q := (qP qI (qM (bM M) m0))) (R := (qM (bM M) m0)) ?_ ?_
  · exact (r_loop (rb_X2_isFlown_42 hL) zFuel _ _ (qM_i hm12))
  rintro S14 m14 ⟨em14, hm14⟩
  change S14 = pI (bM M) m14 at em14; subst em14
  exact r_some (qP_i (qI_i (eI (1 : Int32) (by decide))) (qM_i hm14))
def p_X2_flight (S : zP) (a1 : Int) (a2 : Int) (a3 : Int) : Option (Int × zP) :=
(p_X2_isFlight a1 a2).bind fun v1 =>
if v1 = 0 then (some (((-1), S)))
else ((p_X2_isIn a3 0 3).bind fun v2 =>
if v2 = 0 then (some (((-1), S)))
else ((p_X2_isFlown S a1 a2).bind fun (v3, S4) =>
if v3 = 0 then (some (((-1), S4)))
else (if a3 = 0 then (zlt (S4 0 32) fun v8 =>
some ((v8, S4)))
else (if a3 = 1 then (zlt (S4 0 33) fun v7 =>
some ((v7, S4)))
else (if a3 = 2 then (zlt (S4 0 34) fun v6 =>
some ((v6, S4)))
else (zlt (S4 0 35) fun v5 =>
some ((v5, S4))))))))
set_option maxHeartbeats 4000000 in
theorem rf_X2_flight {g : zGd} {M : Nat} {m0 : zMm} (hL : pLM g (zR m0) M) {m : zMm} (hm : pOk (bM M) m0 m) {pa1 : Int} {a1 : Int32} (ea1 : pa1 = a1.toInt) {pa2 : Int} {a2 : Int32} (ea2 : pa2 = a2.toInt) {pa3 : Int} {a3 : Int32} (ea3 : pa3 = a3.toInt) : pRf (qP qI (qM (bM M) m0)) (p_X2_flight (pI (bM M) m) pa1 pa2 pa3) (f_X2_flight g m (some ((bM M).1 + 0)) a1 a2 a3) := by
  subst ea1
  subst ea2
  subst ea3
  unfold p_X2_flight f_X2_flight
  refine r_bind (A := qI) (rf_X2_isFlight rfl rfl) ?_
  rintro pv1 v1 ev1
  change pv1 = v1.toInt at ev1; subst ev1
  refine r_ite (pc_eq rfl (eI (0 : Int32) (by decide))) ?_ ?_
  · exact r_some (qP_i (qI_i (eI (-1 : Int32) (by decide))) (qM_i hm))
  · refine r_bind (A := qI) (rf_X2_isIn rfl (eI (0 : Int32) (by decide)) (eI (3 : Int32) (by decide))) ?_
    rintro pv2 v2 ev2
    change pv2 = v2.toInt at ev2; subst ev2
    refine r_ite (pc_eq rfl (eI (0 : Int32) (by decide))) ?_ ?_
    · exact r_some (qP_i (qI_i (eI (-1 : Int32) (by decide))) (qM_i hm))
    · refine r_bind (A := (qP qI (qM (bM M) m0))) (r_rc (B := (bM M)) (c := 0) (lm_o hL) (rf_X2_isFlown hL hm rfl rfl)) ?_
      rintro ⟨pv3, S4⟩ ⟨v3, m4⟩ ⟨ev3, ⟨em4, hm4⟩⟩
      change pv3 = v3.toInt at ev3; subst ev3
      change S4 = pI (bM M) m4 at em4; subst em4
      refine r_ite (pc_eq rfl (eI (0 : Int32) (by decide))) ?_ ?_
      · exact r_some (qP_i (qI_i (eI (-1 : Int32) (by decide))) (qM_i hm4))
      · refine r_ite (pc_eq rfl (eI (0 : Int32) (by decide))) ?_ ?_
        · refine r_gi (B := (bM M)) (c := 0) (i := 32) (lm_o hL) rfl rfl (fun v8 => ?_)
          exact r_some (qP_i (qI_i rfl) (qM_i hm4))
        · refine r_ite (pc_eq rfl (eI (1 : Int32) (by decide))) ?_ ?_
          · refine r_gi (B := (bM M)) (c := 0) (i := 33) (lm_o hL) rfl rfl (fun v7 => ?_)
            exact r_some (qP_i (qI_i rfl) (qM_i hm4))
          · refine r_ite (pc_eq rfl (eI (2 : Int32) (by decide))) ?_ ?_
            · refine r_gi (B := (bM M)) (c := 0) (i := 34) (lm_o hL) rfl rfl (fun v6 => ?_)
              exact r_some (qP_i (qI_i rfl) (qM_i hm4))
            · refine r_gi (B := (bM M)) (c := 0) (i := 35) (lm_o hL) rfl rfl (fun v5 => ?_)
              exact r_some (qP_i (qI_i rfl) (qM_i hm4))
def p_X2_isInwards (a0 : Int) (a1 : Int) : Option Int :=
if a1 = 0 then (zlt (pdv a0 6) fun x1 =>
if x1 = 5 then (some (1))
else (some (0)))
else (if a1 = 1 then (zlt (prm a0 6) fun x2 =>
if x2 = 0 then (some (1))
else (some (0)))
else (if a1 = 2 then (zlt (pdv a0 6) fun x3 =>
if x3 = 0 then (some (1))
else (some (0)))
else (zlt (prm a0 6) fun x4 =>
if x4 = 5 then (some (1))
else (some (0)))))
set_option maxHeartbeats 4000000 in
theorem rf_X2_isInwards {pa0 : Int} {a0 : Int32} (ea0 : pa0 = a0.toInt) {pa1 : Int} {a1 : Int32} (ea1 : pa1 = a1.toInt) : pRf qI (p_X2_isInwards pa0 pa1) (f_X2_isInwards a0 a1) := by
  subst ea0
  subst ea1
  unfold p_X2_isInwards f_X2_isInwards
  refine r_ite (pc_eq rfl (eI (0 : Int32) (by decide))) ?_ ?_
  · refine r_x32 (pe_dv (by decide) rfl (eI (6 : Int32) (by decide))) ?_
    refine r_ite (pc_eq rfl (eI (5 : Int32) (by decide))) ?_ ?_
    · exact r_some (qI_i (eI (1 : Int32) (by decide)))
    · exact r_some (qI_i (eI (0 : Int32) (by decide)))
  · refine r_ite (pc_eq rfl (eI (1 : Int32) (by decide))) ?_ ?_
    · refine r_x32 (pe_rm (by decide) rfl (eI (6 : Int32) (by decide))) ?_
      refine r_ite (pc_eq rfl (eI (0 : Int32) (by decide))) ?_ ?_
      · exact r_some (qI_i (eI (1 : Int32) (by decide)))
      · exact r_some (qI_i (eI (0 : Int32) (by decide)))
    · refine r_ite (pc_eq rfl (eI (2 : Int32) (by decide))) ?_ ?_
      · refine r_x32 (pe_dv (by decide) rfl (eI (6 : Int32) (by decide))) ?_
        refine r_ite (pc_eq rfl (eI (0 : Int32) (by decide))) ?_ ?_
        · exact r_some (qI_i (eI (1 : Int32) (by decide)))
        · exact r_some (qI_i (eI (0 : Int32) (by decide)))
      · refine r_x32 (pe_rm (by decide) rfl (eI (6 : Int32) (by decide))) ?_
        refine r_ite (pc_eq rfl (eI (5 : Int32) (by decide))) ?_ ?_
        · exact r_some (qI_i (eI (1 : Int32) (by decide)))
        · exact r_some (qI_i (eI (0 : Int32) (by decide)))
def pb_X2_comes_12 (a1 : Int) (a2 : Int) : (Int × zP) → Option (((Int × zP) ⊕ zP) ⊕ (Int × zP)) := fun (v5, S6) =>
if 144 ≤ v5 then (some (.inl (.inr S6)))
else (zlt (prm v5 36) fun x1 =>
zlt (pdv v5 36) fun x2 =>
(p_X2_isInwards x1 x2).bind fun v7 =>
if v7 = 0 then (p32 (v5 + 1) fun v8 =>
some (.inr (v8, S6)))
else ((p_X2_isFlown S6 x1 x2).bind fun (v9, S10) =>
if v9 = 0 then (p32 (v5 + 1) fun v11 =>
some (.inr (v11, S10)))
else (zlt (S10 0 33) fun v12 =>
if v12 = a1 then (zlt (S10 0 35) fun v14 =>
if v14 = a2 then (some (.inl (.inl (v5, S10))))
else (p32 (v5 + 1) fun v15 =>
some (.inr (v15, S10))))
else (p32 (v5 + 1) fun v13 =>
some (.inr (v13, S10))))))
set_option maxHeartbeats 4000000 in
theorem rb_X2_comes_12 {g : zGd} {M : Nat} {m0 : zMm} (hL : pLM g (zR m0) M) {pa1 : Int} {a1 : Int32} (ea1 : pa1 = a1.toInt) {pa2 : Int} {a2 : Int32} (ea2 : pa2 = a2.toInt) : ∀ s t, (qP qI (qM (bM M) m0)) s t → pRf (qS (qS (qP qI (qM (bM M) m0)) (qM (bM M) m0)) (qP qI (qM (bM M) m0))) (pb_X2_comes_12 pa1 pa2 s) (b_X2_comes_12 g (some ((bM M).1 + 0)) a1 a2 t) := by
  subst ea1
  subst ea2
  rintro ⟨pv5, S6⟩ ⟨v5, m6⟩ ⟨ev5, ⟨em6, hm6⟩⟩
  change pv5 = v5.toInt at ev5; subst ev5
  change S6 = pI (bM M) m6 at em6; subst em6
  unfold pb_X2_comes_12 b_X2_comes_12
  try dsimp only
  refine r_ite (pc_le (eI (144 : Int32) (by decide)) rfl) ?_ ?_
  · exact r_some (qS_l (qS_r (qM_i hm6)))
  · refine r_x32 (pe_rm (by decide) rfl (eI (36 : Int32) (by decide))) ?_
    refine r_x32 (pe_dv (by decide) rfl (eI (36 : Int32) (by decide))) ?_
    refine r_bind (A := qI) (rf_X2_isInwards rfl rfl) ?_
    rintro pv7 v7 ev7
    change pv7 = v7.toInt at ev7; subst ev7
    refine r_ite (pc_eq rfl (eI (0 : Int32) (by decide))) ?_ ?_
    · refine r_lt32 (px_add (px_v _) (px_n (1 : Int32) (by decide))) (fun v8 => ?_)
      exact r_some (qS_r (qP_i (qI_i rfl) (qM_i hm6)))
    · refine r_bind (A := (qP qI (qM (bM M) m0))) (r_rc (B := (bM M)) (c := 0) (lm_o hL) (rf_X2_isFlown hL hm6 rfl rfl)) ?_
      rintro ⟨pv9, S10⟩ ⟨v9, m10⟩ ⟨ev9, ⟨em10, hm10⟩⟩
      change pv9 = v9.toInt at ev9; subst ev9
      change S10 = pI (bM M) m10 at em10; subst em10
      refine r_ite (pc_eq rfl (eI (0 : Int32) (by decide))) ?_ ?_
      · refine r_lt32 (px_add (px_v _) (px_n (1 : Int32) (by decide))) (fun v11 => ?_)
        exact r_some (qS_r (qP_i (qI_i rfl) (qM_i hm10)))
      · refine r_gi (B := (bM M)) (c := 0) (i := 33) (lm_o hL) rfl rfl (fun v12 => ?_)
        refine r_ite (pc_eq rfl rfl) ?_ ?_
        · refine r_gi (B := (bM M)) (c := 0) (i := 35) (lm_o hL) rfl rfl (fun v14 => ?_)
          refine r_ite (pc_eq rfl rfl) ?_ ?_
          · exact r_some (qS_l (qS_l (qP_i (qI_i rfl) (qM_i hm10))))
          · refine r_lt32 (px_add (px_v _) (px_n (1 : Int32) (by decide))) (fun v15 => ?_)
            exact r_some (qS_r (qP_i (qI_i rfl) (qM_i hm10)))
        · refine r_lt32 (px_add (px_v _) (px_n (1 : Int32) (by decide))) (fun v13 => ?_)
          exact r_some (qS_r (qP_i (qI_i rfl) (qM_i hm10)))
def p_X2_comes (S : zP) (a1 : Int) (a2 : Int) : Option (Int × zP) :=
(p_X2_isFlight a1 a2).bind fun v1 =>
if v1 = 0 then (some (((-1), S)))
else (zEx (σ := zP) (zLoop (pb_X2_comes_12 a1 a2) zFuel (0, S)) fun S3 =>
some (((-1), S3)))
set_option maxHeartbeats 4000000 in
theorem rf_X2_comes {g : zGd} {M : Nat} {m0 : zMm} (hL : pLM g (zR m0) M) {m : zMm} (hm : pOk (bM M) m0 m) {pa1 : Int} {a1 : Int32} (ea1 : pa1 = a1.toInt) {pa2 : Int} {a2 : Int32} (ea2 : pa2 = a2.toInt) : pRf (qP qI (qM (bM M) m0)) (p_X2_comes (pI (bM M) m) pa1 pa2) (f_X2_comes g m (some ((bM M).1 + 0)) a1 a2) := by
  subst ea1
  subst ea2
  unfold p_X2_comes f_X2_comes
  refine r_bind (A := qI) (rf_X2_isFlight rfl rfl) ?_
  rintro pv1 v1 ev1
  change pv1 = v1.toInt at ev1; subst ev1
  refine r_ite (pc_eq rfl (eI (0 : Int32) (by decide))) ?_ ?_
  · exact r_some (qP_i (qI_i (eI (-1 : Int32) (by decide))) (qM_i hm))
  · refine r_ex (Q := (qP qI (qM (bM M) m0))) (R := (qM (bM M) m0)) ?_ ?_
    · exact (r_loop (rb_X2_comes_12 hL rfl rfl) zFuel _ _ (qP_i (qI_i (eI (0 : Int32) (by decide))) (qM_i hm)))
    rintro S3 m3 ⟨em3, hm3⟩
    change S3 = pI (bM M) m3 at em3; subst em3
    exact r_some (qP_i (qI_i (eI (-1 : Int32) (by decide))) (qM_i hm3))
def p_X2_isRow (a0 : Int) : Option Int :=
(p_X2_isIn a0 0 124).bind fun v1 =>
(pbo v1).bind fun z =>
some (z)
set_option maxHeartbeats 4000000 in
theorem rf_X2_isRow {pa0 : Int} {a0 : Int32} (ea0 : pa0 = a0.toInt) : pRf qI (p_X2_isRow pa0) (f_X2_isRow a0) := by
  subst ea0
  unfold p_X2_isRow f_X2_isRow
  refine r_bind (A := qI) (rf_X2_isIn rfl (eI (0 : Int32) (by decide)) (eI (124 : Int32) (by decide))) ?_
  rintro pv1 v1 ev1
  change pv1 = v1.toInt at ev1; subst ev1
  refine r_bo rfl (fun z => ?_)
  exact r_some (qI_i rfl)
def p_X2_guess (S : zP) (a1 : Int) (a2 : Int) (a3 : Int) : Option (Int × zP) :=
if a1 = (-1) then ((past S 1 1450 4 0).bind fun S21 =>
some ((0, S21)))
else ((p_X2_isRow a1).bind fun v1 =>
if v1 = 0 then (some (((-2), S)))
else ((p_X2_isIn a2 0 3).bind fun v2 =>
if v2 = 0 then (some (((-2), S)))
else (p32 (3 - a2) fun x1 =>
(p_X2_isIn a3 0 x1).bind fun v3 =>
if v3 = 0 then (some (((-2), S)))
else ((pald S 1 1450 4).bind fun v5 =>
if v5 = 6 then (some (((-2), S)))
else ((pald S 1 1450 4).bind fun v7 =>
p32 (107 + (3 * v7)) fun v8 =>
(past S 1 1450 v8 a1).bind fun S10 =>
p32 (v8 + 1) fun x2 =>
(past S10 1 1450 x2 a2).bind fun S12 =>
p32 (v8 + 2) fun x3 =>
(past S12 1 1450 x3 a3).bind fun S14 =>
(pald S14 1 1450 4).bind fun v16 =>
p32 (v16 + 1) fun x4 =>
(past S14 1 1450 4 x4).bind fun S17 =>
(pald S17 1 1450 4).bind fun v19 =>
some ((v19, S17)))))))
set_option maxHeartbeats 4000000 in
theorem rf_X2_guess {g : zGd} {M : Nat} {m0 : zMm} (hL : pLM g (zR m0) M) {m : zMm} (hm : pOk (bM M) m0 m) {pa1 : Int} {a1 : Int32} (ea1 : pa1 = a1.toInt) {pa2 : Int} {a2 : Int32} (ea2 : pa2 = a2.toInt) {pa3 : Int} {a3 : Int32} (ea3 : pa3 = a3.toInt) : pRf (qP qI (qM (bM M) m0)) (p_X2_guess (pI (bM M) m) pa1 pa2 pa3) (f_X2_guess g m (some ((bM M).1 + 0)) a1 a2 a3) := by
  subst ea1
  subst ea2
  subst ea3
  unfold p_X2_guess f_X2_guess
  refine r_ite (pc_eq rfl (eI (-1 : Int32) (by decide))) ?_ ?_
  · refine r_gr (d := 1) hm (lm_o hL) (lm_f0 hL) ?_
    refine r_ast hm (lm_k1 hL) hL.1 (wM (by omega)) (eI (4 : Int32) (by decide)) (eI (0 : Int32) (by decide)) (fun _ => rfl) (fun m21 hm21 => ?_)
    exact r_some (qP_i (qI_i (eI (0 : Int32) (by decide))) (qM_i hm21))
  · refine r_bind (A := qI) (rf_X2_isRow rfl) ?_
    rintro pv1 v1 ev1
    change pv1 = v1.toInt at ev1; subst ev1
    refine r_ite (pc_eq rfl (eI (0 : Int32) (by decide))) ?_ ?_
    · exact r_some (qP_i (qI_i (eI (-2 : Int32) (by decide))) (qM_i hm))
    · refine r_bind (A := qI) (rf_X2_isIn rfl (eI (0 : Int32) (by decide)) (eI (3 : Int32) (by decide))) ?_
      rintro pv2 v2 ev2
      change pv2 = v2.toInt at ev2; subst ev2
      refine r_ite (pc_eq rfl (eI (0 : Int32) (by decide))) ?_ ?_
      · exact r_some (qP_i (qI_i (eI (-2 : Int32) (by decide))) (qM_i hm))
      · refine r_p32 (px_sub (px_n (3 : Int32) (by decide)) (px_v _)) ?_
        refine r_bind (A := qI) (rf_X2_isIn rfl (eI (0 : Int32) (by decide)) rfl) ?_
        rintro pv3 v3 ev3
        change pv3 = v3.toInt at ev3; subst ev3
        refine r_ite (pc_eq rfl (eI (0 : Int32) (by decide))) ?_ ?_
        · exact r_some (qP_i (qI_i (eI (-2 : Int32) (by decide))) (qM_i hm))
        · refine r_gr (d := 1) hm (lm_o hL) (lm_f0 hL) ?_
          refine r_ald (lm_k1 hL) (eI (4 : Int32) (by decide)) (fun _ => rfl) (fun v5 => ?_)
          refine r_ite (pc_eq rfl (eI (6 : Int32) (by decide))) ?_ ?_
          · exact r_some (qP_i (qI_i (eI (-2 : Int32) (by decide))) (qM_i hm))
          · refine r_gr (d := 1) hm (lm_o hL) (lm_f0 hL) ?_
            refine r_ald (lm_k1 hL) (eI (4 : Int32) (by decide)) (fun _ => rfl) (fun v7 => ?_)
            refine r_lt32 (px_add (px_n (107 : Int32) (by decide)) (px_mul (px_n (3 : Int32) (by decide)) (px_v _))) (fun v8 => ?_)
            refine r_gr (d := 1) hm (lm_o hL) (lm_f0 hL) ?_
            refine r_ast hm (lm_k1 hL) hL.1 (wM (by omega)) rfl rfl (fun _ => rfl) (fun m10 hm10 => ?_)
            refine r_gr (d := 1) hm10 (lm_o hL) (lm_f0 hL) ?_
            refine r_p32 (px_add (px_v _) (px_n (1 : Int32) (by decide))) ?_
            refine r_ast hm10 (lm_k1 hL) hL.1 (wM (by omega)) rfl rfl (fun _ => rfl) (fun m12 hm12 => ?_)
            refine r_gr (d := 1) hm12 (lm_o hL) (lm_f0 hL) ?_
            refine r_p32 (px_add (px_v _) (px_n (2 : Int32) (by decide))) ?_
            refine r_ast hm12 (lm_k1 hL) hL.1 (wM (by omega)) rfl rfl (fun _ => rfl) (fun m14 hm14 => ?_)
            refine r_gr (d := 1) hm14 (lm_o hL) (lm_f0 hL) ?_
            refine r_ald (lm_k1 hL) (eI (4 : Int32) (by decide)) (fun _ => rfl) (fun v16 => ?_)
            refine r_p32 (px_add (px_v _) (px_n (1 : Int32) (by decide))) ?_
            refine r_ast hm14 (lm_k1 hL) hL.1 (wM (by omega)) (eI (4 : Int32) (by decide)) rfl (fun _ => rfl) (fun m17 hm17 => ?_)
            refine r_gr (d := 1) hm17 (lm_o hL) (lm_f0 hL) ?_
            refine r_ald (lm_k1 hL) (eI (4 : Int32) (by decide)) (fun _ => rfl) (fun v19 => ?_)
            exact r_some (qP_i (qI_i rfl) (qM_i hm17))
def p_X2_digitOf (a0 : Int) (a1 : Int) : Option Int :=
if a1 = 0 then (zlt (pdv a0 25) fun x1 =>
some (x1))
else (if a1 = 1 then (zlt (pdv a0 5) fun x2 =>
zlt (prm x2 5) fun x3 =>
some (x3))
else (zlt (prm a0 5) fun x4 =>
some (x4)))
set_option maxHeartbeats 4000000 in
theorem rf_X2_digitOf {pa0 : Int} {a0 : Int32} (ea0 : pa0 = a0.toInt) {pa1 : Int} {a1 : Int32} (ea1 : pa1 = a1.toInt) : pRf qI (p_X2_digitOf pa0 pa1) (f_X2_digitOf a0 a1) := by
  subst ea0
  subst ea1
  unfold p_X2_digitOf f_X2_digitOf
  refine r_ite (pc_eq rfl (eI (0 : Int32) (by decide))) ?_ ?_
  · refine r_x32 (pe_dv (by decide) rfl (eI (25 : Int32) (by decide))) ?_
    exact r_some (qI_i rfl)
  · refine r_ite (pc_eq rfl (eI (1 : Int32) (by decide))) ?_ ?_
    · refine r_x32 (pe_dv (by decide) rfl (eI (5 : Int32) (by decide))) ?_
      refine r_x32 (pe_rm (by decide) rfl (eI (5 : Int32) (by decide))) ?_
      exact r_some (qI_i rfl)
    · refine r_x32 (pe_rm (by decide) rfl (eI (5 : Int32) (by decide))) ?_
      exact r_some (qI_i rfl)
def pb_X2_countOf_4 (a0 : Int) (a1 : Int) : (Int × Int) → Option (Int ⊕ (Int × Int)) := fun (v4, v5) =>
if 3 ≤ v5 then (some (.inl v4))
else ((p_X2_digitOf a0 v5).bind fun v6 =>
if v6 = a1 then (p32 (v4 + 1) fun v9 =>
p32 (v5 + 1) fun v10 =>
some (.inr (v9, v10)))
else (p32 (v4 + 0) fun v7 =>
p32 (v5 + 1) fun v8 =>
some (.inr (v7, v8))))
set_option maxHeartbeats 4000000 in
theorem rb_X2_countOf_4 {pa0 : Int} {a0 : Int32} (ea0 : pa0 = a0.toInt) {pa1 : Int} {a1 : Int32} (ea1 : pa1 = a1.toInt) : ∀ s t, (qP qI qI) s t → pRf (qS qI (qP qI qI)) (pb_X2_countOf_4 pa0 pa1 s) (b_X2_countOf_4 a0 a1 t) := by
  subst ea0
  subst ea1
  rintro ⟨pv4, pv5⟩ ⟨v4, v5⟩ ⟨ev4, ev5⟩
  change pv4 = v4.toInt at ev4; subst ev4
  change pv5 = v5.toInt at ev5; subst ev5
  unfold pb_X2_countOf_4 b_X2_countOf_4
  try dsimp only
  refine r_ite (pc_le (eI (3 : Int32) (by decide)) rfl) ?_ ?_
  · exact r_some (qS_l (qI_i rfl))
  · refine r_bind (A := qI) (rf_X2_digitOf rfl rfl) ?_
    rintro pv6 v6 ev6
    change pv6 = v6.toInt at ev6; subst ev6
    refine r_ite (pc_eq rfl rfl) ?_ ?_
    · refine r_lt32 (px_add (px_v _) (px_n (1 : Int32) (by decide))) (fun v9 => ?_)
      refine r_lt32 (px_add (px_v _) (px_n (1 : Int32) (by decide))) (fun v10 => ?_)
      exact r_some (qS_r (qP_i (qI_i rfl) (qI_i rfl)))
    · refine r_lt32 (px_add (px_v _) (px_n (0 : Int32) (by decide))) (fun v7 => ?_)
      refine r_lt32 (px_add (px_v _) (px_n (1 : Int32) (by decide))) (fun v8 => ?_)
      exact r_some (qS_r (qP_i (qI_i rfl) (qI_i rfl)))
def p_X2_countOf (a0 : Int) (a1 : Int) : Option Int :=
(zLoop (pb_X2_countOf_4 a0 a1) zFuel (0, 0)).bind fun v2 =>
some (v2)
set_option maxHeartbeats 4000000 in
theorem rf_X2_countOf {pa0 : Int} {a0 : Int32} (ea0 : pa0 = a0.toInt) {pa1 : Int} {a1 : Int32} (ea1 : pa1 = a1.toInt) : pRf qI (p_X2_countOf pa0 pa1) (f_X2_countOf a0 a1) := by
  subst ea0
  subst ea1
  unfold p_X2_countOf f_X2_countOf
  refine r_bind (A := qI) (r_loop (rb_X2_countOf_4 rfl rfl) zFuel _ _ (qP_i (qI_i (eI (0 : Int32) (by decide))) (qI_i (eI (0 : Int32) (by decide))))) ?_
  rintro pv2 v2 ev2
  change pv2 = v2.toInt at ev2; subst ev2
  exact r_some (qI_i rfl)
def pb_X2_answerOf_7 (a0 : Int) (a1 : Int) : (Int × Int) → Option (Int ⊕ (Int × Int)) := fun (v4, v5) =>
if 3 ≤ v5 then (some (.inl v4))
else ((p_X2_digitOf a0 v5).bind fun v6 =>
(p_X2_digitOf a1 v5).bind fun v7 =>
if v6 = v7 then (p32 (v4 + 1) fun v10 =>
p32 (v5 + 1) fun v11 =>
some (.inr (v10, v11)))
else (p32 (v4 + 0) fun v8 =>
p32 (v5 + 1) fun v9 =>
some (.inr (v8, v9))))
set_option maxHeartbeats 4000000 in
theorem rb_X2_answerOf_7 {pa0 : Int} {a0 : Int32} (ea0 : pa0 = a0.toInt) {pa1 : Int} {a1 : Int32} (ea1 : pa1 = a1.toInt) : ∀ s t, (qP qI qI) s t → pRf (qS qI (qP qI qI)) (pb_X2_answerOf_7 pa0 pa1 s) (b_X2_answerOf_7 a0 a1 t) := by
  subst ea0
  subst ea1
  rintro ⟨pv4, pv5⟩ ⟨v4, v5⟩ ⟨ev4, ev5⟩
  change pv4 = v4.toInt at ev4; subst ev4
  change pv5 = v5.toInt at ev5; subst ev5
  unfold pb_X2_answerOf_7 b_X2_answerOf_7
  try dsimp only
  refine r_ite (pc_le (eI (3 : Int32) (by decide)) rfl) ?_ ?_
  · exact r_some (qS_l (qI_i rfl))
  · refine r_bind (A := qI) (rf_X2_digitOf rfl rfl) ?_
    rintro pv6 v6 ev6
    change pv6 = v6.toInt at ev6; subst ev6
    refine r_bind (A := qI) (rf_X2_digitOf rfl rfl) ?_
    rintro pv7 v7 ev7
    change pv7 = v7.toInt at ev7; subst ev7
    refine r_ite (pc_eq rfl rfl) ?_ ?_
    · refine r_lt32 (px_add (px_v _) (px_n (1 : Int32) (by decide))) (fun v10 => ?_)
      refine r_lt32 (px_add (px_v _) (px_n (1 : Int32) (by decide))) (fun v11 => ?_)
      exact r_some (qS_r (qP_i (qI_i rfl) (qI_i rfl)))
    · refine r_lt32 (px_add (px_v _) (px_n (0 : Int32) (by decide))) (fun v8 => ?_)
      refine r_lt32 (px_add (px_v _) (px_n (1 : Int32) (by decide))) (fun v9 => ?_)
      exact r_some (qS_r (qP_i (qI_i rfl) (qI_i rfl)))
def pb_X2_answerOf_45 (a0 : Int) (a1 : Int) : (Int × Int) → Option (Int ⊕ (Int × Int)) := fun (v15, v16) =>
if 5 ≤ v16 then (some (.inl v15))
else ((p_X2_countOf a0 v16).bind fun v17 =>
(p_X2_countOf a1 v16).bind fun v18 =>
if v18 ≤ v17 then ((p_X2_countOf a1 v16).bind fun v19 =>
p32 (v15 + v19) fun v20 =>
p32 (v16 + 1) fun v21 =>
some (.inr (v20, v21)))
else ((p_X2_countOf a0 v16).bind fun v22 =>
p32 (v15 + v22) fun v23 =>
p32 (v16 + 1) fun v24 =>
some (.inr (v23, v24))))
set_option maxHeartbeats 4000000 in
theorem rb_X2_answerOf_45 {pa0 : Int} {a0 : Int32} (ea0 : pa0 = a0.toInt) {pa1 : Int} {a1 : Int32} (ea1 : pa1 = a1.toInt) : ∀ s t, (qP qI qI) s t → pRf (qS qI (qP qI qI)) (pb_X2_answerOf_45 pa0 pa1 s) (b_X2_answerOf_45 a0 a1 t) := by
  subst ea0
  subst ea1
  rintro ⟨pv15, pv16⟩ ⟨v15, v16⟩ ⟨ev15, ev16⟩
  change pv15 = v15.toInt at ev15; subst ev15
  change pv16 = v16.toInt at ev16; subst ev16
  unfold pb_X2_answerOf_45 b_X2_answerOf_45
  try dsimp only
  refine r_ite (pc_le (eI (5 : Int32) (by decide)) rfl) ?_ ?_
  · exact r_some (qS_l (qI_i rfl))
  · refine r_bind (A := qI) (rf_X2_countOf rfl rfl) ?_
    rintro pv17 v17 ev17
    change pv17 = v17.toInt at ev17; subst ev17
    refine r_bind (A := qI) (rf_X2_countOf rfl rfl) ?_
    rintro pv18 v18 ev18
    change pv18 = v18.toInt at ev18; subst ev18
    refine r_ite (pc_le rfl rfl) ?_ ?_
    · refine r_bind (A := qI) (rf_X2_countOf rfl rfl) ?_
      rintro pv19 v19 ev19
      change pv19 = v19.toInt at ev19; subst ev19
      refine r_lt32 (px_add (px_v _) (px_v _)) (fun v20 => ?_)
      refine r_lt32 (px_add (px_v _) (px_n (1 : Int32) (by decide))) (fun v21 => ?_)
      exact r_some (qS_r (qP_i (qI_i rfl) (qI_i rfl)))
    · refine r_bind (A := qI) (rf_X2_countOf rfl rfl) ?_
      rintro pv22 v22 ev22
      change pv22 = v22.toInt at ev22; subst ev22
      refine r_lt32 (px_add (px_v _) (px_v _)) (fun v23 => ?_)
      refine r_lt32 (px_add (px_v _) (px_n (1 : Int32) (by decide))) (fun v24 => ?_)
      exact r_some (qS_r (qP_i (qI_i rfl) (qI_i rfl)))
def p_X2_answerOf (a0 : Int) (a1 : Int) : Option Int :=
(zLoop (pb_X2_answerOf_7 a0 a1) zFuel (0, 0)).bind fun v2 =>
(zLoop (pb_X2_answerOf_45 a0 a1) zFuel (0, 0)).bind fun v13 =>
p32 (((10 * v2) + v13) - v2) fun x1 =>
some (x1)
set_option maxHeartbeats 4000000 in
theorem rf_X2_answerOf {pa0 : Int} {a0 : Int32} (ea0 : pa0 = a0.toInt) {pa1 : Int} {a1 : Int32} (ea1 : pa1 = a1.toInt) : pRf qI (p_X2_answerOf pa0 pa1) (f_X2_answerOf a0 a1) := by
  subst ea0
  subst ea1
  unfold p_X2_answerOf f_X2_answerOf
  refine r_bind (A := qI) (r_loop (rb_X2_answerOf_7 rfl rfl) zFuel _ _ (qP_i (qI_i (eI (0 : Int32) (by decide))) (qI_i (eI (0 : Int32) (by decide))))) ?_
  rintro pv2 v2 ev2
  change pv2 = v2.toInt at ev2; subst ev2
  refine r_bind (A := qI) (r_loop (rb_X2_answerOf_45 rfl rfl) zFuel _ _ (qP_i (qI_i (eI (0 : Int32) (by decide))) (qI_i (eI (0 : Int32) (by decide))))) ?_
  rintro pv13 v13 ev13
  change pv13 = v13.toInt at ev13; subst ev13
  refine r_p32 (px_sub (px_add (px_mul (px_n (10 : Int32) (by decide)) (px_v _)) (px_v _)) (px_v _)) ?_
  exact r_some (qI_i rfl)
def p_X2_answer (S : zP) (a1 : Int) (a2 : Int) : Option Int :=
(p_X2_isRow a1).bind fun v1 =>
if v1 = 0 then (some ((-1)))
else ((p_X2_isRow a2).bind fun v2 =>
if v2 = 0 then (some ((-1)))
else ((p_X2_answerOf a1 a2).bind fun v3 =>
some (v3)))
set_option maxHeartbeats 4000000 in
theorem rf_X2_answer {g : zGd} {M : Nat} {m0 : zMm} (hL : pLM g (zR m0) M) {m : zMm} (hm : pOk (bM M) m0 m) {pa1 : Int} {a1 : Int32} (ea1 : pa1 = a1.toInt) {pa2 : Int} {a2 : Int32} (ea2 : pa2 = a2.toInt) : pRf qI (p_X2_answer (pI (bM M) m) pa1 pa2) (f_X2_answer g m (some ((bM M).1 + 0)) a1 a2) := by
  subst ea1
  subst ea2
  unfold p_X2_answer f_X2_answer
  refine r_bind (A := qI) (rf_X2_isRow rfl) ?_
  rintro pv1 v1 ev1
  change pv1 = v1.toInt at ev1; subst ev1
  refine r_ite (pc_eq rfl (eI (0 : Int32) (by decide))) ?_ ?_
  · exact r_some (qI_i (eI (-1 : Int32) (by decide)))
  · refine r_bind (A := qI) (rf_X2_isRow rfl) ?_
    rintro pv2 v2 ev2
    change pv2 = v2.toInt at ev2; subst ev2
    refine r_ite (pc_eq rfl (eI (0 : Int32) (by decide))) ?_ ?_
    · exact r_some (qI_i (eI (-1 : Int32) (by decide)))
    · refine r_bind (A := qI) (rf_X2_answerOf rfl rfl) ?_
      rintro pv3 v3 ev3
      change pv3 = v3.toInt at ev3; subst ev3
      exact r_some (qI_i rfl)
def pb_X2_layFits_16 (S7 : zP) (v6 : Int) : (Int × Int) → Option (Int ⊕ (Int × Int)) := fun (v11, v12) =>
(pald S7 1 1450 4).bind fun v14 =>
p32 (107 + (3 * v14)) fun x1 =>
if x1 ≤ v12 then (some (.inl v11))
else (if v11 = 0 then (p32 (v12 + 3) fun v15 =>
some (.inr (0, v15)))
else ((pald S7 1 1450 v12).bind fun v17 =>
(p_X2_answerOf v17 v6).bind fun v18 =>
p32 (v12 + 1) fun x2 =>
(pald S7 1 1450 x2).bind fun v20 =>
p32 (v12 + 2) fun x3 =>
(pald S7 1 1450 x3).bind fun v22 =>
p32 ((10 * v20) + v22) fun x4 =>
if v18 = x4 then (p32 (v12 + 3) fun v24 =>
some (.inr (1, v24)))
else (p32 (v12 + 3) fun v23 =>
some (.inr (0, v23)))))
set_option maxHeartbeats 4000000 in
theorem rb_X2_layFits_16 {g : zGd} {M : Nat} {m0 : zMm} (hL : pLM g (zR m0) M) {m7 : zMm} (hm7 : pOk (bM M) m0 m7) {pv6 : Int} {v6 : Int32} (ev6 : pv6 = v6.toInt) : ∀ s t, (qP qI qI) s t → pRf (qS qI (qP qI qI)) (pb_X2_layFits_16 (pI (bM M) m7) pv6 s) (b_X2_layFits_16 g (some ((bM M).1 + 0)) m7 v6 t) := by
  subst ev6
  rintro ⟨pv11, pv12⟩ ⟨v11, v12⟩ ⟨ev11, ev12⟩
  change pv11 = v11.toInt at ev11; subst ev11
  change pv12 = v12.toInt at ev12; subst ev12
  unfold pb_X2_layFits_16 b_X2_layFits_16
  try dsimp only
  refine r_gr (d := 1) hm7 (lm_o hL) (lm_f0 hL) ?_
  refine r_ald (lm_k1 hL) (eI (4 : Int32) (by decide)) (fun _ => rfl) (fun v14 => ?_)
  refine r_p32 (px_add (px_n (107 : Int32) (by decide)) (px_mul (px_n (3 : Int32) (by decide)) (px_v _))) ?_
  refine r_ite (pc_le rfl rfl) ?_ ?_
  · exact r_some (qS_l (qI_i rfl))
  · refine r_ite (pc_eq rfl (eI (0 : Int32) (by decide))) ?_ ?_
    · refine r_lt32 (px_add (px_v _) (px_n (3 : Int32) (by decide))) (fun v15 => ?_)
      exact r_some (qS_r (qP_i (qI_i (eI (0 : Int32) (by decide))) (qI_i rfl)))
    · refine r_gr (d := 1) hm7 (lm_o hL) (lm_f0 hL) ?_
      refine r_ald (lm_k1 hL) rfl (fun _ => rfl) (fun v17 => ?_)
      refine r_bind (A := qI) (rf_X2_answerOf rfl rfl) ?_
      rintro pv18 v18 ev18
      change pv18 = v18.toInt at ev18; subst ev18
      refine r_gr (d := 1) hm7 (lm_o hL) (lm_f0 hL) ?_
      refine r_p32 (px_add (px_v _) (px_n (1 : Int32) (by decide))) ?_
      refine r_ald (lm_k1 hL) rfl (fun _ => rfl) (fun v20 => ?_)
      refine r_gr (d := 1) hm7 (lm_o hL) (lm_f0 hL) ?_
      refine r_p32 (px_add (px_v _) (px_n (2 : Int32) (by decide))) ?_
      refine r_ald (lm_k1 hL) rfl (fun _ => rfl) (fun v22 => ?_)
      refine r_p32 (px_add (px_mul (px_n (10 : Int32) (by decide)) (px_v _)) (px_v _)) ?_
      refine r_ite (pc_eq rfl rfl) ?_ ?_
      · refine r_lt32 (px_add (px_v _) (px_n (3 : Int32) (by decide))) (fun v24 => ?_)
        exact r_some (qS_r (qP_i (qI_i (eI (1 : Int32) (by decide))) (qI_i rfl)))
      · refine r_lt32 (px_add (px_v _) (px_n (3 : Int32) (by decide))) (fun v23 => ?_)
        exact r_some (qS_r (qP_i (qI_i (eI (0 : Int32) (by decide))) (qI_i rfl)))
def pb_X2_layFits_4  : (Int × (Int × zP)) → Option ((Int × zP) ⊕ (Int × (Int × zP))) := fun (v5, v6, S7) =>
if 125 ≤ v6 then (some (.inl (v5, S7)))
else ((zLoop (pb_X2_layFits_16 S7 v6) zFuel (1, 107)).bind fun v9 =>
if v9 = 0 then (p32 (v6 + 1) fun v29 =>
some (.inr (v5, v29, S7)))
else ((past S7 13 125 v5 v6).bind fun S26 =>
p32 (v5 + 1) fun v27 =>
p32 (v6 + 1) fun v28 =>
some (.inr (v27, v28, S26))))
set_option maxHeartbeats 4000000 in
theorem rb_X2_layFits_4 {g : zGd} {M : Nat} {m0 : zMm} (hL : pLM g (zR m0) M)  : ∀ s t, (qP qI (qP qI (qM (bM M) m0))) s t → pRf (qS (qP qI (qM (bM M) m0)) (qP qI (qP qI (qM (bM M) m0)))) (pb_X2_layFits_4 s) (b_X2_layFits_4 g (some ((bM M).1 + 0)) t) := by
  rintro ⟨pv5, pv6, S7⟩ ⟨v5, v6, m7⟩ ⟨ev5, ev6, ⟨em7, hm7⟩⟩
  change pv5 = v5.toInt at ev5; subst ev5
  change pv6 = v6.toInt at ev6; subst ev6
  change S7 = pI (bM M) m7 at em7; subst em7
  unfold pb_X2_layFits_4 b_X2_layFits_4
  try dsimp only
  refine r_ite (pc_le (eI (125 : Int32) (by decide)) rfl) ?_ ?_
  · exact r_some (qS_l (qP_i (qI_i rfl) (qM_i hm7)))
  · refine r_bind (A := qI) (r_loop (rb_X2_layFits_16 hL hm7 rfl) zFuel _ _ (qP_i (qI_i (eI (1 : Int32) (by decide))) (qI_i (eI (107 : Int32) (by decide))))) ?_
    rintro pv9 v9 ev9
    change pv9 = v9.toInt at ev9; subst ev9
    refine r_ite (pc_eq rfl (eI (0 : Int32) (by decide))) ?_ ?_
    · refine r_lt32 (px_add (px_v _) (px_n (1 : Int32) (by decide))) (fun v29 => ?_)
      exact r_some (qS_r (qP_i (qI_i rfl) (qP_i (qI_i rfl) (qM_i hm7))))
    · refine r_gr (d := 13) hm7 (lm_o hL) (lm_f36 hL) ?_
      refine r_ast hm7 (lm_k13 hL) hL.1 (wM (by omega)) rfl rfl (fun _ => rfl) (fun m26 hm26 => ?_)
      refine r_lt32 (px_add (px_v _) (px_n (1 : Int32) (by decide))) (fun v27 => ?_)
      refine r_lt32 (px_add (px_v _) (px_n (1 : Int32) (by decide))) (fun v28 => ?_)
      exact r_some (qS_r (qP_i (qI_i rfl) (qP_i (qI_i rfl) (qM_i hm26))))
def p_X2_layFits (S : zP) : Option (Int × zP) :=
(zLoop pb_X2_layFits_4 zFuel (0, 0, S)).bind fun (v2, S3) =>
some ((v2, S3))
set_option maxHeartbeats 4000000 in
theorem rf_X2_layFits {g : zGd} {M : Nat} {m0 : zMm} (hL : pLM g (zR m0) M) {m : zMm} (hm : pOk (bM M) m0 m) : pRf (qP qI (qM (bM M) m0)) (p_X2_layFits (pI (bM M) m)) (f_X2_layFits g m (some ((bM M).1 + 0))) := by
  unfold p_X2_layFits f_X2_layFits
  refine r_bind (A := (qP qI (qM (bM M) m0))) (r_loop (rb_X2_layFits_4 hL) zFuel _ _ (qP_i (qI_i (eI (0 : Int32) (by decide))) (qP_i (qI_i (eI (0 : Int32) (by decide))) (qM_i hm)))) ?_
  rintro ⟨pv2, S3⟩ ⟨v2, m3⟩ ⟨ev2, ⟨em3, hm3⟩⟩
  change pv2 = v2.toInt at ev2; subst ev2
  change S3 = pI (bM M) m3 at em3; subst em3
  exact r_some (qP_i (qI_i rfl) (qM_i hm3))
def p_X2_fits (S : zP) : Option (Int × zP) :=
(p_X2_layFits S).bind fun (v1, S2) =>
some ((v1, S2))
set_option maxHeartbeats 4000000 in
theorem rf_X2_fits {g : zGd} {M : Nat} {m0 : zMm} (hL : pLM g (zR m0) M) {m : zMm} (hm : pOk (bM M) m0 m) : pRf (qP qI (qM (bM M) m0)) (p_X2_fits (pI (bM M) m)) (f_X2_fits g m (some ((bM M).1 + 0))) := by
  unfold p_X2_fits f_X2_fits
  refine r_bind (A := (qP qI (qM (bM M) m0))) (r_rc (B := (bM M)) (c := 0) (lm_o hL) (rf_X2_layFits hL hm)) ?_
  rintro ⟨pv1, S2⟩ ⟨v1, m2⟩ ⟨ev1, ⟨em2, hm2⟩⟩
  change pv1 = v1.toInt at ev1; subst ev1
  change S2 = pI (bM M) m2 at em2; subst em2
  exact r_some (qP_i (qI_i rfl) (qM_i hm2))
def p_X2_fit (S : zP) (a1 : Int) : Option (Int × zP) :=
(p_X2_layFits S).bind fun (v1, S2) =>
p32 (v1 - 1) fun x1 =>
(p_X2_isIn a1 0 x1).bind fun v3 =>
if v3 = 0 then (some (((-1), S2)))
else ((pald S2 13 125 a1).bind fun v5 =>
some ((v5, S2)))
set_option maxHeartbeats 4000000 in
theorem rf_X2_fit {g : zGd} {M : Nat} {m0 : zMm} (hL : pLM g (zR m0) M) {m : zMm} (hm : pOk (bM M) m0 m) {pa1 : Int} {a1 : Int32} (ea1 : pa1 = a1.toInt) : pRf (qP qI (qM (bM M) m0)) (p_X2_fit (pI (bM M) m) pa1) (f_X2_fit g m (some ((bM M).1 + 0)) a1) := by
  subst ea1
  unfold p_X2_fit f_X2_fit
  refine r_bind (A := (qP qI (qM (bM M) m0))) (r_rc (B := (bM M)) (c := 0) (lm_o hL) (rf_X2_layFits hL hm)) ?_
  rintro ⟨pv1, S2⟩ ⟨v1, m2⟩ ⟨ev1, ⟨em2, hm2⟩⟩
  change pv1 = v1.toInt at ev1; subst ev1
  change S2 = pI (bM M) m2 at em2; subst em2
  refine r_p32 (px_sub (px_v _) (px_n (1 : Int32) (by decide))) ?_
  refine r_bind (A := qI) (rf_X2_isIn rfl (eI (0 : Int32) (by decide)) rfl) ?_
  rintro pv3 v3 ev3
  change pv3 = v3.toInt at ev3; subst ev3
  refine r_ite (pc_eq rfl (eI (0 : Int32) (by decide))) ?_ ?_
  · exact r_some (qP_i (qI_i (eI (-1 : Int32) (by decide))) (qM_i hm2))
  · refine r_gr (d := 13) hm2 (lm_o hL) (lm_f36 hL) ?_
    refine r_ald (lm_k13 hL) rfl (fun _ => rfl) (fun v5 => ?_)
    exact r_some (qP_i (qI_i rfl) (qM_i hm2))
def pb_X2_isFitting_2 (S : zP) (a1 : Int) (a2 : Int) : Int → Option ((Int ⊕ Unit) ⊕ Int) := fun v3 =>
if a2 ≤ v3 then (some (.inl (.inr ())))
else ((pald S 13 125 v3).bind fun v5 =>
if v5 = a1 then (some (.inl (.inl 1)))
else (p32 (v3 + 1) fun v6 =>
some (.inr v6)))
set_option maxHeartbeats 4000000 in
theorem rb_X2_isFitting_2 {g : zGd} {M : Nat} {m0 : zMm} (hL : pLM g (zR m0) M) {m : zMm} (hm : pOk (bM M) m0 m) {pa1 : Int} {a1 : Int32} (ea1 : pa1 = a1.toInt) {pa2 : Int} {a2 : Int32} (ea2 : pa2 = a2.toInt) : ∀ s t, qI s t → pRf (qS (qS qI qU) qI) (pb_X2_isFitting_2 (pI (bM M) m) pa1 pa2 s) (b_X2_isFitting_2 g m (some ((bM M).1 + 0)) a1 a2 t) := by
  subst ea1
  subst ea2
  rintro pv3 v3 ev3
  change pv3 = v3.toInt at ev3; subst ev3
  unfold pb_X2_isFitting_2 b_X2_isFitting_2
  try dsimp only
  refine r_ite (pc_le rfl rfl) ?_ ?_
  · exact r_some (qS_l (qS_r qU_i))
  · refine r_gr (d := 13) hm (lm_o hL) (lm_f36 hL) ?_
    refine r_ald (lm_k13 hL) rfl (fun _ => rfl) (fun v5 => ?_)
    refine r_ite (pc_eq rfl rfl) ?_ ?_
    · exact r_some (qS_l (qS_l (qI_i (eI (1 : Int32) (by decide)))))
    · refine r_lt32 (px_add (px_v _) (px_n (1 : Int32) (by decide))) (fun v6 => ?_)
      exact r_some (qS_r (qI_i rfl))
def p_X2_isFitting (S : zP) (a1 : Int) (a2 : Int) : Option Int :=
zEx (σ := Unit) (zLoop (pb_X2_isFitting_2 S a1 a2) zFuel 0) fun _ =>
some (0)
set_option maxHeartbeats 4000000 in
theorem rf_X2_isFitting {g : zGd} {M : Nat} {m0 : zMm} (hL : pLM g (zR m0) M) {m : zMm} (hm : pOk (bM M) m0 m) {pa1 : Int} {a1 : Int32} (ea1 : pa1 = a1.toInt) {pa2 : Int} {a2 : Int32} (ea2 : pa2 = a2.toInt) : pRf qI (p_X2_isFitting (pI (bM M) m) pa1 pa2) (f_X2_isFitting g m (some ((bM M).1 + 0)) a1 a2) := by
  subst ea1
  subst ea2
  unfold p_X2_isFitting f_X2_isFitting
  refine r_ex (Q := qI) (R := qU) ?_ ?_
  · exact (r_loop (rb_X2_isFitting_2 hL hm rfl rfl) zFuel _ _ (qI_i (eI (0 : Int32) (by decide))))
  rintro _ _ _
  exact r_some (qI_i (eI (0 : Int32) (by decide)))
def pb_X2_mostAlike_2  : (Int × zP) → Option (zP ⊕ (Int × zP)) := fun (v4, S5) =>
if 31 ≤ v4 then (some (.inl S5))
else ((past S5 14 31 v4 0).bind fun S7 =>
p32 (v4 + 1) fun v8 =>
some (.inr (v8, S7)))
set_option maxHeartbeats 4000000 in
theorem rb_X2_mostAlike_2 {g : zGd} {M : Nat} {m0 : zMm} (hL : pLM g (zR m0) M)  : ∀ s t, (qP qI (qM (bM M) m0)) s t → pRf (qS (qM (bM M) m0) (qP qI (qM (bM M) m0))) (pb_X2_mostAlike_2 s) (b_X2_mostAlike_2 g (some ((bM M).1 + 0)) t) := by
  rintro ⟨pv4, S5⟩ ⟨v4, m5⟩ ⟨ev4, ⟨em5, hm5⟩⟩
  change pv4 = v4.toInt at ev4; subst ev4
  change S5 = pI (bM M) m5 at em5; subst em5
  unfold pb_X2_mostAlike_2 b_X2_mostAlike_2
  try dsimp only
  refine r_ite (pc_le (eI (31 : Int32) (by decide)) rfl) ?_ ?_
  · exact r_some (qS_l (qM_i hm5))
  · refine r_gr (d := 14) hm5 (lm_o hL) (lm_f37 hL) ?_
    refine r_ast hm5 (lm_k14 hL) hL.1 (wM (by omega)) rfl (eI (0 : Int32) (by decide)) (fun _ => rfl) (fun m7 hm7 => ?_)
    refine r_lt32 (px_add (px_v _) (px_n (1 : Int32) (by decide))) (fun v8 => ?_)
    exact r_some (qS_r (qP_i (qI_i rfl) (qM_i hm7)))
def pb_X2_mostAlike_26 (a1 : Int) (a2 : Int) : (Int × (Int × zP)) → Option ((Int × zP) ⊕ (Int × (Int × zP))) := fun (v13, v14, S15) =>
if a2 ≤ v14 then (some (.inl (v13, S15)))
else ((pald S15 13 125 v14).bind fun v17 =>
(p_X2_answerOf a1 v17).bind fun v18 =>
(pald S15 14 31 v18).bind fun v20 =>
p32 (v20 + 1) fun x1 =>
(past S15 14 31 v18 x1).bind fun S21 =>
(pald S21 14 31 v18).bind fun v23 =>
if v23 ≤ v13 then (p32 (v14 + 1) fun v24 =>
some (.inr (v13, v24, S21)))
else ((pald S21 14 31 v18).bind fun v26 =>
p32 (v14 + 1) fun v27 =>
some (.inr (v26, v27, S21))))
set_option maxHeartbeats 4000000 in
theorem rb_X2_mostAlike_26 {g : zGd} {M : Nat} {m0 : zMm} (hL : pLM g (zR m0) M) {pa1 : Int} {a1 : Int32} (ea1 : pa1 = a1.toInt) {pa2 : Int} {a2 : Int32} (ea2 : pa2 = a2.toInt) : ∀ s t, (qP qI (qP qI (qM (bM M) m0))) s t → pRf (qS (qP qI (qM (bM M) m0)) (qP qI (qP qI (qM (bM M) m0)))) (pb_X2_mostAlike_26 pa1 pa2 s) (b_X2_mostAlike_26 g (some ((bM M).1 + 0)) a1 a2 t) := by
  subst ea1
  subst ea2
  rintro ⟨pv13, pv14, S15⟩ ⟨v13, v14, m15⟩ ⟨ev13, ev14, ⟨em15, hm15⟩⟩
  change pv13 = v13.toInt at ev13; subst ev13
  change pv14 = v14.toInt at ev14; subst ev14
  change S15 = pI (bM M) m15 at em15; subst em15
  unfold pb_X2_mostAlike_26 b_X2_mostAlike_26
  try dsimp only
  refine r_ite (pc_le rfl rfl) ?_ ?_
  · exact r_some (qS_l (qP_i (qI_i rfl) (qM_i hm15)))
  · refine r_gr (d := 13) hm15 (lm_o hL) (lm_f36 hL) ?_
    refine r_ald (lm_k13 hL) rfl (fun _ => rfl) (fun v17 => ?_)
    refine r_bind (A := qI) (rf_X2_answerOf rfl rfl) ?_
    rintro pv18 v18 ev18
    change pv18 = v18.toInt at ev18; subst ev18
    refine r_gr (d := 14) hm15 (lm_o hL) (lm_f37 hL) ?_
    refine r_ald (lm_k14 hL) rfl (fun _ => rfl) (fun v20 => ?_)
    refine r_p32 (px_add (px_v _) (px_n (1 : Int32) (by decide))) ?_
    refine r_ast hm15 (lm_k14 hL) hL.1 (wM (by omega)) rfl rfl (fun _ => rfl) (fun m21 hm21 => ?_)
    refine r_gr (d := 14) hm21 (lm_o hL) (lm_f37 hL) ?_
    refine r_ald (lm_k14 hL) rfl (fun _ => rfl) (fun v23 => ?_)
    refine r_ite (pc_le rfl rfl) ?_ ?_
    · refine r_lt32 (px_add (px_v _) (px_n (1 : Int32) (by decide))) (fun v24 => ?_)
      exact r_some (qS_r (qP_i (qI_i rfl) (qP_i (qI_i rfl) (qM_i hm21))))
    · refine r_gr (d := 14) hm21 (lm_o hL) (lm_f37 hL) ?_
      refine r_ald (lm_k14 hL) rfl (fun _ => rfl) (fun v26 => ?_)
      refine r_lt32 (px_add (px_v _) (px_n (1 : Int32) (by decide))) (fun v27 => ?_)
      exact r_some (qS_r (qP_i (qI_i rfl) (qP_i (qI_i rfl) (qM_i hm21))))
def p_X2_mostAlike (S : zP) (a1 : Int) (a2 : Int) : Option (Int × zP) :=
(zLoop pb_X2_mostAlike_2 zFuel (0, S)).bind fun S2 =>
(zLoop (pb_X2_mostAlike_26 a1 a2) zFuel (0, 0, S2)).bind fun (v10, S11) =>
some ((v10, S11))
set_option maxHeartbeats 4000000 in
theorem rf_X2_mostAlike {g : zGd} {M : Nat} {m0 : zMm} (hL : pLM g (zR m0) M) {m : zMm} (hm : pOk (bM M) m0 m) {pa1 : Int} {a1 : Int32} (ea1 : pa1 = a1.toInt) {pa2 : Int} {a2 : Int32} (ea2 : pa2 = a2.toInt) : pRf (qP qI (qM (bM M) m0)) (p_X2_mostAlike (pI (bM M) m) pa1 pa2) (f_X2_mostAlike g m (some ((bM M).1 + 0)) a1 a2) := by
  subst ea1
  subst ea2
  unfold p_X2_mostAlike f_X2_mostAlike
  refine r_bind (A := (qM (bM M) m0)) (r_loop (rb_X2_mostAlike_2 hL) zFuel _ _ (qP_i (qI_i (eI (0 : Int32) (by decide))) (qM_i hm))) ?_
  rintro S2 m2 ⟨em2, hm2⟩
  change S2 = pI (bM M) m2 at em2; subst em2
  refine r_bind (A := (qP qI (qM (bM M) m0))) (r_loop (rb_X2_mostAlike_26 hL rfl rfl) zFuel _ _ (qP_i (qI_i (eI (0 : Int32) (by decide))) (qP_i (qI_i (eI (0 : Int32) (by decide))) (qM_i hm2)))) ?_
  rintro ⟨pv10, S11⟩ ⟨v10, m11⟩ ⟨ev10, ⟨em11, hm11⟩⟩
  change pv10 = v10.toInt at ev10; subst ev10
  change S11 = pI (bM M) m11 at em11; subst em11
  exact r_some (qP_i (qI_i rfl) (qM_i hm11))
def pb_X2_ask_21 (v1 : Int) : (Int × (Int × (Int × zP))) → Option ((Int × zP) ⊕ (Int × (Int × (Int × zP)))) := fun (v7, v8, v9, S10) =>
if 125 ≤ v9 then (some (.inl (v7, S10)))
else ((p_X2_mostAlike S10 v9 v1).bind fun (v11, S12) =>
(p_X2_isFitting S12 v9 v1).bind fun v13 =>
((if v13 = 0 then (some (1))
else (some (0)) : Option Int)).bind fun v15 =>
p32 ((2 * v11) + v15) fun v16 =>
if v16 < v8 then (p32 (v9 + 1) fun v17 =>
some (.inr (v9, v16, v17, S12)))
else (p32 (v9 + 1) fun v18 =>
some (.inr (v7, v8, v18, S12))))
set_option maxHeartbeats 4000000 in
theorem rb_X2_ask_21 {g : zGd} {M : Nat} {m0 : zMm} (hL : pLM g (zR m0) M) {pv1 : Int} {v1 : Int32} (ev1 : pv1 = v1.toInt) : ∀ s t, (qP qI (qP qI (qP qI (qM (bM M) m0)))) s t → pRf (qS (qP qI (qM (bM M) m0)) (qP qI (qP qI (qP qI (qM (bM M) m0))))) (pb_X2_ask_21 pv1 s) (b_X2_ask_21 g (some ((bM M).1 + 0)) v1 t) := by
  subst ev1
  rintro ⟨pv7, pv8, pv9, S10⟩ ⟨v7, v8, v9, m10⟩ ⟨ev7, ev8, ev9, ⟨em10, hm10⟩⟩
  change pv7 = v7.toInt at ev7; subst ev7
  change pv8 = v8.toInt at ev8; subst ev8
  change pv9 = v9.toInt at ev9; subst ev9
  change S10 = pI (bM M) m10 at em10; subst em10
  unfold pb_X2_ask_21 b_X2_ask_21
  try dsimp only
  refine r_ite (pc_le (eI (125 : Int32) (by decide)) rfl) ?_ ?_
  · exact r_some (qS_l (qP_i (qI_i rfl) (qM_i hm10)))
  · refine r_bind (A := (qP qI (qM (bM M) m0))) (r_rc (B := (bM M)) (c := 0) (lm_o hL) (rf_X2_mostAlike hL hm10 rfl rfl)) ?_
    rintro ⟨pv11, S12⟩ ⟨v11, m12⟩ ⟨ev11, ⟨em12, hm12⟩⟩
    change pv11 = v11.toInt at ev11; subst ev11
    change S12 = pI (bM M) m12 at em12; subst em12
    refine r_bind (A := qI) (r_rc (B := (bM M)) (c := 0) (lm_o hL) (rf_X2_isFitting hL hm12 rfl rfl)) ?_
    rintro pv13 v13 ev13
    change pv13 = v13.toInt at ev13; subst ev13
    refine r_bind (A := qI) ?_ ?_
    · refine r_ite (pc_eq rfl (eI (0 : Int32) (by decide))) ?_ ?_
      · exact r_some (qI_i (eI (1 : Int32) (by decide)))
      · exact r_some (qI_i (eI (0 : Int32) (by decide)))
    rintro pv15 v15 ev15
    change pv15 = v15.toInt at ev15; subst ev15
    refine r_lt32 (px_add (px_mul (px_n (2 : Int32) (by decide)) (px_v _)) (px_v _)) (fun v16 => ?_)
    refine r_ite (pc_lt rfl rfl) ?_ ?_
    · refine r_lt32 (px_add (px_v _) (px_n (1 : Int32) (by decide))) (fun v17 => ?_)
      exact r_some (qS_r (qP_i (qI_i rfl) (qP_i (qI_i rfl) (qP_i (qI_i rfl) (qM_i hm12)))))
    · refine r_lt32 (px_add (px_v _) (px_n (1 : Int32) (by decide))) (fun v18 => ?_)
      exact r_some (qS_r (qP_i (qI_i rfl) (qP_i (qI_i rfl) (qP_i (qI_i rfl) (qM_i hm12)))))
def p_X2_ask (S : zP) : Option (Int × zP) :=
(p_X2_layFits S).bind fun (v1, S2) =>
if 2 ≤ v1 then ((zLoop (pb_X2_ask_21 v1) zFuel ((-1), 1000000, 0, S2)).bind fun (v4, S5) =>
some ((v4, S5)))
else (some (((-1), S2)))
set_option maxHeartbeats 4000000 in
theorem rf_X2_ask {g : zGd} {M : Nat} {m0 : zMm} (hL : pLM g (zR m0) M) {m : zMm} (hm : pOk (bM M) m0 m) : pRf (qP qI (qM (bM M) m0)) (p_X2_ask (pI (bM M) m)) (f_X2_ask g m (some ((bM M).1 + 0))) := by
  unfold p_X2_ask f_X2_ask
  refine r_bind (A := (qP qI (qM (bM M) m0))) (r_rc (B := (bM M)) (c := 0) (lm_o hL) (rf_X2_layFits hL hm)) ?_
  rintro ⟨pv1, S2⟩ ⟨v1, m2⟩ ⟨ev1, ⟨em2, hm2⟩⟩
  change pv1 = v1.toInt at ev1; subst ev1
  change S2 = pI (bM M) m2 at em2; subst em2
  refine r_ite (pc_le (eI (2 : Int32) (by decide)) rfl) ?_ ?_
  · refine r_bind (A := (qP qI (qM (bM M) m0))) (r_loop (rb_X2_ask_21 hL rfl) zFuel _ _ (qP_i (qI_i (eI (-1 : Int32) (by decide))) (qP_i (qI_i (eI (1000000 : Int32) (by decide))) (qP_i (qI_i (eI (0 : Int32) (by decide))) (qM_i hm2))))) ?_
    rintro ⟨pv4, S5⟩ ⟨v4, m5⟩ ⟨ev4, ⟨em5, hm5⟩⟩
    change pv4 = v4.toInt at ev4; subst ev4
    change S5 = pI (bM M) m5 at em5; subst em5
    exact r_some (qP_i (qI_i rfl) (qM_i hm5))
  · exact r_some (qP_i (qI_i (eI (-1 : Int32) (by decide))) (qM_i hm2))
def p_X2_gain (S : zP) (a1 : Int) (a2 : Int) (a3 : Int) (a4 : Int) : Option (Int × zP) :=
(p_X2_isIn a1 0 1).bind fun v1 =>
if v1 = 0 then (some ((0, S)))
else ((p_X2_isIn a2 0 1).bind fun v2 =>
if v2 = 0 then (some ((0, S)))
else ((p_X2_isIn a3 (-99) 99).bind fun v3 =>
if v3 = 0 then (some ((0, S)))
else ((p_X2_isIn a4 (-99) 99).bind fun v4 =>
if v4 = 0 then (some ((0, S)))
else (p32 ((125 + (4 * a1)) + (2 * a2)) fun x1 =>
(past S 1 1450 x1 a3).bind fun S6 =>
p32 (((125 + (4 * a1)) + (2 * a2)) + 1) fun x2 =>
(past S6 1 1450 x2 a4).bind fun S8 =>
some ((1, S8))))))
set_option maxHeartbeats 4000000 in
theorem rf_X2_gain {g : zGd} {M : Nat} {m0 : zMm} (hL : pLM g (zR m0) M) {m : zMm} (hm : pOk (bM M) m0 m) {pa1 : Int} {a1 : Int32} (ea1 : pa1 = a1.toInt) {pa2 : Int} {a2 : Int32} (ea2 : pa2 = a2.toInt) {pa3 : Int} {a3 : Int32} (ea3 : pa3 = a3.toInt) {pa4 : Int} {a4 : Int32} (ea4 : pa4 = a4.toInt) : pRf (qP qI (qM (bM M) m0)) (p_X2_gain (pI (bM M) m) pa1 pa2 pa3 pa4) (f_X2_gain g m (some ((bM M).1 + 0)) a1 a2 a3 a4) := by
  subst ea1
  subst ea2
  subst ea3
  subst ea4
  unfold p_X2_gain f_X2_gain
  refine r_bind (A := qI) (rf_X2_isIn rfl (eI (0 : Int32) (by decide)) (eI (1 : Int32) (by decide))) ?_
  rintro pv1 v1 ev1
  change pv1 = v1.toInt at ev1; subst ev1
  refine r_ite (pc_eq rfl (eI (0 : Int32) (by decide))) ?_ ?_
  · exact r_some (qP_i (qI_i (eI (0 : Int32) (by decide))) (qM_i hm))
  · refine r_bind (A := qI) (rf_X2_isIn rfl (eI (0 : Int32) (by decide)) (eI (1 : Int32) (by decide))) ?_
    rintro pv2 v2 ev2
    change pv2 = v2.toInt at ev2; subst ev2
    refine r_ite (pc_eq rfl (eI (0 : Int32) (by decide))) ?_ ?_
    · exact r_some (qP_i (qI_i (eI (0 : Int32) (by decide))) (qM_i hm))
    · refine r_bind (A := qI) (rf_X2_isIn rfl (eI (-99 : Int32) (by decide)) (eI (99 : Int32) (by decide))) ?_
      rintro pv3 v3 ev3
      change pv3 = v3.toInt at ev3; subst ev3
      refine r_ite (pc_eq rfl (eI (0 : Int32) (by decide))) ?_ ?_
      · exact r_some (qP_i (qI_i (eI (0 : Int32) (by decide))) (qM_i hm))
      · refine r_bind (A := qI) (rf_X2_isIn rfl (eI (-99 : Int32) (by decide)) (eI (99 : Int32) (by decide))) ?_
        rintro pv4 v4 ev4
        change pv4 = v4.toInt at ev4; subst ev4
        refine r_ite (pc_eq rfl (eI (0 : Int32) (by decide))) ?_ ?_
        · exact r_some (qP_i (qI_i (eI (0 : Int32) (by decide))) (qM_i hm))
        · refine r_gr (d := 1) hm (lm_o hL) (lm_f0 hL) ?_
          refine r_p32 (px_add (px_add (px_n (125 : Int32) (by decide)) (px_mul (px_n (4 : Int32) (by decide)) (px_v _))) (px_mul (px_n (2 : Int32) (by decide)) (px_v _))) ?_
          refine r_ast hm (lm_k1 hL) hL.1 (wM (by omega)) rfl rfl (fun _ => rfl) (fun m6 hm6 => ?_)
          refine r_gr (d := 1) hm6 (lm_o hL) (lm_f0 hL) ?_
          refine r_p32 (px_add (px_add (px_add (px_n (125 : Int32) (by decide)) (px_mul (px_n (4 : Int32) (by decide)) (px_v _))) (px_mul (px_n (2 : Int32) (by decide)) (px_v _))) (px_n (1 : Int32) (by decide))) ?_
          refine r_ast hm6 (lm_k1 hL) hL.1 (wM (by omega)) rfl rfl (fun _ => rfl) (fun m8 hm8 => ?_)
          exact r_some (qP_i (qI_i (eI (1 : Int32) (by decide))) (qM_i hm8))
def p_X2_gainOf (S : zP) (a1 : Int) (a2 : Int) (a3 : Int) : Option Int :=
p32 (((125 + (4 * a1)) + (2 * a2)) + a3) fun x1 =>
(pald S 1 1450 x1).bind fun v2 =>
some (v2)
set_option maxHeartbeats 4000000 in
theorem rf_X2_gainOf {g : zGd} {M : Nat} {m0 : zMm} (hL : pLM g (zR m0) M) {m : zMm} (hm : pOk (bM M) m0 m) {pa1 : Int} {a1 : Int32} (ea1 : pa1 = a1.toInt) {pa2 : Int} {a2 : Int32} (ea2 : pa2 = a2.toInt) {pa3 : Int} {a3 : Int32} (ea3 : pa3 = a3.toInt) : pRf qI (p_X2_gainOf (pI (bM M) m) pa1 pa2 pa3) (f_X2_gainOf g m (some ((bM M).1 + 0)) a1 a2 a3) := by
  subst ea1
  subst ea2
  subst ea3
  unfold p_X2_gainOf f_X2_gainOf
  refine r_gr (d := 1) hm (lm_o hL) (lm_f0 hL) ?_
  refine r_p32 (px_add (px_add (px_add (px_n (125 : Int32) (by decide)) (px_mul (px_n (4 : Int32) (by decide)) (px_v _))) (px_mul (px_n (2 : Int32) (by decide)) (px_v _))) (px_v _)) ?_
  refine r_ald (lm_k1 hL) rfl (fun _ => rfl) (fun v2 => ?_)
  exact r_some (qI_i rfl)
def pb_X2_rests_4 (S : zP) : (Int × Int) → Option (Int ⊕ (Int × Int)) := fun (v4, v5) =>
if 4 ≤ v5 then (some (.inl v4))
else (zlt (pdv v5 2) fun x1 =>
zlt (prm v5 2) fun x2 =>
(p_X2_gainOf S x1 x2 0).bind fun v6 =>
p32 (1 - (pdv v5 2)) fun x3 =>
(p_X2_gainOf S x3 x2 0).bind fun v7 =>
if v6 < v7 then (p32 (v5 + 1) fun v8 =>
some (.inr (v4, v8)))
else ((p_X2_gainOf S x1 x2 1).bind fun v9 =>
p32 (1 - (prm v5 2)) fun x4 =>
(p_X2_gainOf S x1 x4 1).bind fun v10 =>
if v9 < v10 then (p32 (v5 + 1) fun v11 =>
some (.inr (v4, v11)))
else (zlt (pshl 1 v5) fun x5 =>
zlt (por v4 x5) fun v12 =>
p32 (v5 + 1) fun v13 =>
some (.inr (v12, v13)))))
set_option maxHeartbeats 4000000 in
theorem rb_X2_rests_4 {g : zGd} {M : Nat} {m0 : zMm} (hL : pLM g (zR m0) M) {m : zMm} (hm : pOk (bM M) m0 m) : ∀ s t, (qP qI qI) s t → pRf (qS qI (qP qI qI)) (pb_X2_rests_4 (pI (bM M) m) s) (b_X2_rests_4 g m (some ((bM M).1 + 0)) t) := by
  rintro ⟨pv4, pv5⟩ ⟨v4, v5⟩ ⟨ev4, ev5⟩
  change pv4 = v4.toInt at ev4; subst ev4
  change pv5 = v5.toInt at ev5; subst ev5
  unfold pb_X2_rests_4 b_X2_rests_4
  try dsimp only
  refine r_ite (pc_le (eI (4 : Int32) (by decide)) rfl) ?_ ?_
  · exact r_some (qS_l (qI_i rfl))
  · refine r_x32 (pe_dv (by decide) rfl (eI (2 : Int32) (by decide))) ?_
    refine r_x32 (pe_rm (by decide) rfl (eI (2 : Int32) (by decide))) ?_
    refine r_bind (A := qI) (r_rc (B := (bM M)) (c := 0) (lm_o hL) (rf_X2_gainOf hL hm rfl rfl (eI (0 : Int32) (by decide)))) ?_
    rintro pv6 v6 ev6
    change pv6 = v6.toInt at ev6; subst ev6
    refine r_p32 (px_sub (px_n (1 : Int32) (by decide)) (px_e (pe_dv (by decide) rfl (eI (2 : Int32) (by decide))))) ?_
    refine r_bind (A := qI) (r_rc (B := (bM M)) (c := 0) (lm_o hL) (rf_X2_gainOf hL hm rfl rfl (eI (0 : Int32) (by decide)))) ?_
    rintro pv7 v7 ev7
    change pv7 = v7.toInt at ev7; subst ev7
    refine r_ite (pc_lt rfl rfl) ?_ ?_
    · refine r_lt32 (px_add (px_v _) (px_n (1 : Int32) (by decide))) (fun v8 => ?_)
      exact r_some (qS_r (qP_i (qI_i rfl) (qI_i rfl)))
    · refine r_bind (A := qI) (r_rc (B := (bM M)) (c := 0) (lm_o hL) (rf_X2_gainOf hL hm rfl rfl (eI (1 : Int32) (by decide)))) ?_
      rintro pv9 v9 ev9
      change pv9 = v9.toInt at ev9; subst ev9
      refine r_p32 (px_sub (px_n (1 : Int32) (by decide)) (px_e (pe_rm (by decide) rfl (eI (2 : Int32) (by decide))))) ?_
      refine r_bind (A := qI) (r_rc (B := (bM M)) (c := 0) (lm_o hL) (rf_X2_gainOf hL hm rfl rfl (eI (1 : Int32) (by decide)))) ?_
      rintro pv10 v10 ev10
      change pv10 = v10.toInt at ev10; subst ev10
      refine r_ite (pc_lt rfl rfl) ?_ ?_
      · refine r_lt32 (px_add (px_v _) (px_n (1 : Int32) (by decide))) (fun v11 => ?_)
        exact r_some (qS_r (qP_i (qI_i rfl) (qI_i rfl)))
      · refine r_x32 (pe_shl (eI (1 : Int32) (by decide)) rfl) ?_
        refine r_ltx (pe_or rfl rfl) (fun v12 => ?_)
        refine r_lt32 (px_add (px_v _) (px_n (1 : Int32) (by decide))) (fun v13 => ?_)
        exact r_some (qS_r (qP_i (qI_i rfl) (qI_i rfl)))
def p_X2_rests (S : zP) : Option Int :=
(zLoop (pb_X2_rests_4 S) zFuel (0, 0)).bind fun v2 =>
some (v2)
set_option maxHeartbeats 4000000 in
theorem rf_X2_rests {g : zGd} {M : Nat} {m0 : zMm} (hL : pLM g (zR m0) M) {m : zMm} (hm : pOk (bM M) m0 m) : pRf qI (p_X2_rests (pI (bM M) m)) (f_X2_rests g m (some ((bM M).1 + 0))) := by
  unfold p_X2_rests f_X2_rests
  refine r_bind (A := qI) (r_loop (rb_X2_rests_4 hL hm) zFuel _ _ (qP_i (qI_i (eI (0 : Int32) (by decide))) (qI_i (eI (0 : Int32) (by decide))))) ?_
  rintro pv2 v2 ev2
  change pv2 = v2.toInt at ev2; subst ev2
  exact r_some (qI_i rfl)
def pb_X2_divisor_4  : (Int × Int) → Option (Int ⊕ (Int × Int)) := fun (v4, v5) =>
if v5 = 0 then (some (.inl v4))
else ((pmod v4 v5).bind fun v6 =>
some (.inr (v5, v6)))
set_option maxHeartbeats 4000000 in
theorem rb_X2_divisor_4  : ∀ s t, (qP qI qI) s t → pRf (qS qI (qP qI qI)) (pb_X2_divisor_4 s) (b_X2_divisor_4 t) := by
  rintro ⟨pv4, pv5⟩ ⟨v4, v5⟩ ⟨ev4, ev5⟩
  change pv4 = v4.toInt at ev4; subst ev4
  change pv5 = v5.toInt at ev5; subst ev5
  unfold pb_X2_divisor_4 b_X2_divisor_4
  try dsimp only
  refine r_ite (pc_eq rfl (eI (0 : Int32) (by decide))) ?_ ?_
  · exact r_some (qS_l (qI_i rfl))
  · refine r_mod rfl rfl (fun v6 => ?_)
    exact r_some (qS_r (qP_i (qI_i rfl) (qI_i rfl)))
def p_X2_divisor (a0 : Int) (a1 : Int) : Option Int :=
(zLoop pb_X2_divisor_4 zFuel (a0, a1)).bind fun v2 =>
if 0 ≤ v2 then (some (v2))
else (p32 (-v2) fun x1 =>
some (x1))
set_option maxHeartbeats 4000000 in
theorem rf_X2_divisor {pa0 : Int} {a0 : Int32} (ea0 : pa0 = a0.toInt) {pa1 : Int} {a1 : Int32} (ea1 : pa1 = a1.toInt) : pRf qI (p_X2_divisor pa0 pa1) (f_X2_divisor a0 a1) := by
  subst ea0
  subst ea1
  unfold p_X2_divisor f_X2_divisor
  refine r_bind (A := qI) (r_loop rb_X2_divisor_4 zFuel _ _ (qP_i (qI_i rfl) (qI_i rfl))) ?_
  rintro pv2 v2 ev2
  change pv2 = v2.toInt at ev2; subst ev2
  refine r_ite (pc_le (eI (0 : Int32) (by decide)) rfl) ?_ ?_
  · exact r_some (qI_i rfl)
  · refine r_p32 (px_neg (px_v _)) ?_
    exact r_some (qI_i rfl)
def p_X2_upOf (S : zP) (a1 : Int) : Option Int :=
if a1 = 0 then ((p_X2_gainOf S 1 0 0).bind fun v1 =>
(p_X2_gainOf S 0 0 0).bind fun v2 =>
p32 (v1 - v2) fun x1 =>
some (x1))
else ((p_X2_gainOf S 0 1 1).bind fun v3 =>
(p_X2_gainOf S 0 0 1).bind fun v4 =>
p32 (v3 - v4) fun x2 =>
some (x2))
set_option maxHeartbeats 4000000 in
theorem rf_X2_upOf {g : zGd} {M : Nat} {m0 : zMm} (hL : pLM g (zR m0) M) {m : zMm} (hm : pOk (bM M) m0 m) {pa1 : Int} {a1 : Int32} (ea1 : pa1 = a1.toInt) : pRf qI (p_X2_upOf (pI (bM M) m) pa1) (f_X2_upOf g m (some ((bM M).1 + 0)) a1) := by
  subst ea1
  unfold p_X2_upOf f_X2_upOf
  refine r_ite (pc_eq rfl (eI (0 : Int32) (by decide))) ?_ ?_
  · refine r_bind (A := qI) (r_rc (B := (bM M)) (c := 0) (lm_o hL) (rf_X2_gainOf hL hm (eI (1 : Int32) (by decide)) (eI (0 : Int32) (by decide)) (eI (0 : Int32) (by decide)))) ?_
    rintro pv1 v1 ev1
    change pv1 = v1.toInt at ev1; subst ev1
    refine r_bind (A := qI) (r_rc (B := (bM M)) (c := 0) (lm_o hL) (rf_X2_gainOf hL hm (eI (0 : Int32) (by decide)) (eI (0 : Int32) (by decide)) (eI (0 : Int32) (by decide)))) ?_
    rintro pv2 v2 ev2
    change pv2 = v2.toInt at ev2; subst ev2
    refine r_p32 (px_sub (px_v _) (px_v _)) ?_
    exact r_some (qI_i rfl)
  · refine r_bind (A := qI) (r_rc (B := (bM M)) (c := 0) (lm_o hL) (rf_X2_gainOf hL hm (eI (0 : Int32) (by decide)) (eI (1 : Int32) (by decide)) (eI (1 : Int32) (by decide)))) ?_
    rintro pv3 v3 ev3
    change pv3 = v3.toInt at ev3; subst ev3
    refine r_bind (A := qI) (r_rc (B := (bM M)) (c := 0) (lm_o hL) (rf_X2_gainOf hL hm (eI (0 : Int32) (by decide)) (eI (0 : Int32) (by decide)) (eI (1 : Int32) (by decide)))) ?_
    rintro pv4 v4 ev4
    change pv4 = v4.toInt at ev4; subst ev4
    refine r_p32 (px_sub (px_v _) (px_v _)) ?_
    exact r_some (qI_i rfl)
def p_X2_lowOf (S : zP) (a1 : Int) : Option Int :=
(p_X2_upOf S a1).bind fun v1 =>
if a1 = 0 then ((p_X2_gainOf S 0 1 0).bind fun v2 =>
(p_X2_gainOf S 1 1 0).bind fun v3 =>
p32 (v1 + (v2 - v3)) fun x1 =>
some (x1))
else ((p_X2_gainOf S 1 0 1).bind fun v4 =>
(p_X2_gainOf S 1 1 1).bind fun v5 =>
p32 (v1 + (v4 - v5)) fun x2 =>
some (x2))
set_option maxHeartbeats 4000000 in
theorem rf_X2_lowOf {g : zGd} {M : Nat} {m0 : zMm} (hL : pLM g (zR m0) M) {m : zMm} (hm : pOk (bM M) m0 m) {pa1 : Int} {a1 : Int32} (ea1 : pa1 = a1.toInt) : pRf qI (p_X2_lowOf (pI (bM M) m) pa1) (f_X2_lowOf g m (some ((bM M).1 + 0)) a1) := by
  subst ea1
  unfold p_X2_lowOf f_X2_lowOf
  refine r_bind (A := qI) (r_rc (B := (bM M)) (c := 0) (lm_o hL) (rf_X2_upOf hL hm rfl)) ?_
  rintro pv1 v1 ev1
  change pv1 = v1.toInt at ev1; subst ev1
  refine r_ite (pc_eq rfl (eI (0 : Int32) (by decide))) ?_ ?_
  · refine r_bind (A := qI) (r_rc (B := (bM M)) (c := 0) (lm_o hL) (rf_X2_gainOf hL hm (eI (0 : Int32) (by decide)) (eI (1 : Int32) (by decide)) (eI (0 : Int32) (by decide)))) ?_
    rintro pv2 v2 ev2
    change pv2 = v2.toInt at ev2; subst ev2
    refine r_bind (A := qI) (r_rc (B := (bM M)) (c := 0) (lm_o hL) (rf_X2_gainOf hL hm (eI (1 : Int32) (by decide)) (eI (1 : Int32) (by decide)) (eI (0 : Int32) (by decide)))) ?_
    rintro pv3 v3 ev3
    change pv3 = v3.toInt at ev3; subst ev3
    refine r_p32 (px_add (px_v _) (px_sub (px_v _) (px_v _))) ?_
    exact r_some (qI_i rfl)
  · refine r_bind (A := qI) (r_rc (B := (bM M)) (c := 0) (lm_o hL) (rf_X2_gainOf hL hm (eI (1 : Int32) (by decide)) (eI (0 : Int32) (by decide)) (eI (1 : Int32) (by decide)))) ?_
    rintro pv4 v4 ev4
    change pv4 = v4.toInt at ev4; subst ev4
    refine r_bind (A := qI) (r_rc (B := (bM M)) (c := 0) (lm_o hL) (rf_X2_gainOf hL hm (eI (1 : Int32) (by decide)) (eI (1 : Int32) (by decide)) (eI (1 : Int32) (by decide)))) ?_
    rintro pv5 v5 ev5
    change pv5 = v5.toInt at ev5; subst ev5
    refine r_p32 (px_add (px_v _) (px_sub (px_v _) (px_v _))) ?_
    exact r_some (qI_i rfl)
def p_X2_isBetween (S : zP) (a1 : Int) : Option Int :=
(p_X2_lowOf S a1).bind fun v1 =>
if v1 ≤ 0 then ((p_X2_upOf S a1).bind fun v2 =>
(p_X2_lowOf S a1).bind fun v3 =>
p32 (v3 + 1) fun x1 =>
(p_X2_isIn v2 x1 (-1)).bind fun v4 =>
(pbo v4).bind fun z =>
some (z))
else ((p_X2_upOf S a1).bind fun v5 =>
(p_X2_lowOf S a1).bind fun v6 =>
p32 (v6 - 1) fun x2 =>
(p_X2_isIn v5 1 x2).bind fun v7 =>
(pbo v7).bind fun z =>
some (z))
set_option maxHeartbeats 4000000 in
theorem rf_X2_isBetween {g : zGd} {M : Nat} {m0 : zMm} (hL : pLM g (zR m0) M) {m : zMm} (hm : pOk (bM M) m0 m) {pa1 : Int} {a1 : Int32} (ea1 : pa1 = a1.toInt) : pRf qI (p_X2_isBetween (pI (bM M) m) pa1) (f_X2_isBetween g m (some ((bM M).1 + 0)) a1) := by
  subst ea1
  unfold p_X2_isBetween f_X2_isBetween
  refine r_bind (A := qI) (r_rc (B := (bM M)) (c := 0) (lm_o hL) (rf_X2_lowOf hL hm rfl)) ?_
  rintro pv1 v1 ev1
  change pv1 = v1.toInt at ev1; subst ev1
  refine r_ite (pc_le rfl (eI (0 : Int32) (by decide))) ?_ ?_
  · refine r_bind (A := qI) (r_rc (B := (bM M)) (c := 0) (lm_o hL) (rf_X2_upOf hL hm rfl)) ?_
    rintro pv2 v2 ev2
    change pv2 = v2.toInt at ev2; subst ev2
    refine r_bind (A := qI) (r_rc (B := (bM M)) (c := 0) (lm_o hL) (rf_X2_lowOf hL hm rfl)) ?_
    rintro pv3 v3 ev3
    change pv3 = v3.toInt at ev3; subst ev3
    refine r_p32 (px_add (px_v _) (px_n (1 : Int32) (by decide))) ?_
    refine r_bind (A := qI) (rf_X2_isIn rfl rfl (eI (-1 : Int32) (by decide))) ?_
    rintro pv4 v4 ev4
    change pv4 = v4.toInt at ev4; subst ev4
    refine r_bo rfl (fun z => ?_)
    exact r_some (qI_i rfl)
  · refine r_bind (A := qI) (r_rc (B := (bM M)) (c := 0) (lm_o hL) (rf_X2_upOf hL hm rfl)) ?_
    rintro pv5 v5 ev5
    change pv5 = v5.toInt at ev5; subst ev5
    refine r_bind (A := qI) (r_rc (B := (bM M)) (c := 0) (lm_o hL) (rf_X2_lowOf hL hm rfl)) ?_
    rintro pv6 v6 ev6
    change pv6 = v6.toInt at ev6; subst ev6
    refine r_p32 (px_sub (px_v _) (px_n (1 : Int32) (by decide))) ?_
    refine r_bind (A := qI) (rf_X2_isIn rfl (eI (1 : Int32) (by decide)) rfl) ?_
    rintro pv7 v7 ev7
    change pv7 = v7.toInt at ev7; subst ev7
    refine r_bo rfl (fun z => ?_)
    exact r_some (qI_i rfl)
def p_X2_mixed (S : zP) (a1 : Int) (a2 : Int) : Option Int :=
(p_X2_isBetween S 1).bind fun v1 =>
if v1 = 0 then (some ((-1)))
else ((p_X2_isBetween S 0).bind fun v2 =>
if v2 = 0 then (some ((-1)))
else (((if a2 = 0 then ((p_X2_upOf S a1).bind fun v5 =>
some (v5))
else ((p_X2_lowOf S a1).bind fun v6 =>
some (v6)) : Option Int)).bind fun v4 =>
((if 0 ≤ v4 then (some (v4))
else (p32 (-v4) fun x1 =>
some (x1)) : Option Int)).bind fun v8 =>
(p_X2_upOf S a1).bind fun v9 =>
(p_X2_lowOf S a1).bind fun v10 =>
(p_X2_divisor v9 v10).bind fun v11 =>
(pdiv v8 v11).bind fun v12 =>
some (v12)))
set_option maxHeartbeats 4000000 in
theorem rf_X2_mixed {g : zGd} {M : Nat} {m0 : zMm} (hL : pLM g (zR m0) M) {m : zMm} (hm : pOk (bM M) m0 m) {pa1 : Int} {a1 : Int32} (ea1 : pa1 = a1.toInt) {pa2 : Int} {a2 : Int32} (ea2 : pa2 = a2.toInt) : pRf qI (p_X2_mixed (pI (bM M) m) pa1 pa2) (f_X2_mixed g m (some ((bM M).1 + 0)) a1 a2) := by
  subst ea1
  subst ea2
  unfold p_X2_mixed f_X2_mixed
  refine r_bind (A := qI) (r_rc (B := (bM M)) (c := 0) (lm_o hL) (rf_X2_isBetween hL hm (eI (1 : Int32) (by decide)))) ?_
  rintro pv1 v1 ev1
  change pv1 = v1.toInt at ev1; subst ev1
  refine r_ite (pc_eq rfl (eI (0 : Int32) (by decide))) ?_ ?_
  · exact r_some (qI_i (eI (-1 : Int32) (by decide)))
  · refine r_bind (A := qI) (r_rc (B := (bM M)) (c := 0) (lm_o hL) (rf_X2_isBetween hL hm (eI (0 : Int32) (by decide)))) ?_
    rintro pv2 v2 ev2
    change pv2 = v2.toInt at ev2; subst ev2
    refine r_ite (pc_eq rfl (eI (0 : Int32) (by decide))) ?_ ?_
    · exact r_some (qI_i (eI (-1 : Int32) (by decide)))
    · refine r_bind (A := qI) ?_ ?_
      · refine r_ite (pc_eq rfl (eI (0 : Int32) (by decide))) ?_ ?_
        · refine r_bind (A := qI) (r_rc (B := (bM M)) (c := 0) (lm_o hL) (rf_X2_upOf hL hm rfl)) ?_
          rintro pv5 v5 ev5
          change pv5 = v5.toInt at ev5; subst ev5
          exact r_some (qI_i rfl)
        · refine r_bind (A := qI) (r_rc (B := (bM M)) (c := 0) (lm_o hL) (rf_X2_lowOf hL hm rfl)) ?_
          rintro pv6 v6 ev6
          change pv6 = v6.toInt at ev6; subst ev6
          exact r_some (qI_i rfl)
      rintro pv4 v4 ev4
      change pv4 = v4.toInt at ev4; subst ev4
      refine r_bind (A := qI) ?_ ?_
      · refine r_ite (pc_le (eI (0 : Int32) (by decide)) rfl) ?_ ?_
        · exact r_some (qI_i rfl)
        · refine r_p32 (px_neg (px_v _)) ?_
          exact r_some (qI_i rfl)
      rintro pv8 v8 ev8
      change pv8 = v8.toInt at ev8; subst ev8
      refine r_bind (A := qI) (r_rc (B := (bM M)) (c := 0) (lm_o hL) (rf_X2_upOf hL hm rfl)) ?_
      rintro pv9 v9 ev9
      change pv9 = v9.toInt at ev9; subst ev9
      refine r_bind (A := qI) (r_rc (B := (bM M)) (c := 0) (lm_o hL) (rf_X2_lowOf hL hm rfl)) ?_
      rintro pv10 v10 ev10
      change pv10 = v10.toInt at ev10; subst ev10
      refine r_bind (A := qI) (rf_X2_divisor rfl rfl) ?_
      rintro pv11 v11 ev11
      change pv11 = v11.toInt at ev11; subst ev11
      refine r_div rfl rfl (fun v12 => ?_)
      exact r_some (qI_i rfl)
def p_X2_saying (S : zP) (a1 : Int) (a2 : Int) : Option (Int × zP) :=
if a1 = (-1) then ((past S 1 1450 5 0).bind fun S19 =>
some ((0, S19)))
else ((p_X2_isIn a1 0 99).bind fun v1 =>
if v1 = 0 then (some (((-2), S)))
else ((p_X2_isIn a2 1 99).bind fun v2 =>
if v2 = 0 then (some (((-2), S)))
else ((pald S 1 1450 5).bind fun v4 =>
if v4 = 8 then (some (((-2), S)))
else ((pald S 1 1450 5).bind fun v7 =>
p32 (133 + (2 * v7)) fun x1 =>
(past S 1 1450 x1 a1).bind fun S8 =>
(pald S8 1 1450 5).bind fun v11 =>
p32 ((133 + (2 * v11)) + 1) fun x2 =>
(past S8 1 1450 x2 a2).bind fun S12 =>
(pald S12 1 1450 5).bind fun v14 =>
p32 (v14 + 1) fun x3 =>
(past S12 1 1450 5 x3).bind fun S15 =>
(pald S15 1 1450 5).bind fun v17 =>
some ((v17, S15))))))
set_option maxHeartbeats 4000000 in
theorem rf_X2_saying {g : zGd} {M : Nat} {m0 : zMm} (hL : pLM g (zR m0) M) {m : zMm} (hm : pOk (bM M) m0 m) {pa1 : Int} {a1 : Int32} (ea1 : pa1 = a1.toInt) {pa2 : Int} {a2 : Int32} (ea2 : pa2 = a2.toInt) : pRf (qP qI (qM (bM M) m0)) (p_X2_saying (pI (bM M) m) pa1 pa2) (f_X2_saying g m (some ((bM M).1 + 0)) a1 a2) := by
  subst ea1
  subst ea2
  unfold p_X2_saying f_X2_saying
  refine r_ite (pc_eq rfl (eI (-1 : Int32) (by decide))) ?_ ?_
  · refine r_gr (d := 1) hm (lm_o hL) (lm_f0 hL) ?_
    refine r_ast hm (lm_k1 hL) hL.1 (wM (by omega)) (eI (5 : Int32) (by decide)) (eI (0 : Int32) (by decide)) (fun _ => rfl) (fun m19 hm19 => ?_)
    exact r_some (qP_i (qI_i (eI (0 : Int32) (by decide))) (qM_i hm19))
  · refine r_bind (A := qI) (rf_X2_isIn rfl (eI (0 : Int32) (by decide)) (eI (99 : Int32) (by decide))) ?_
    rintro pv1 v1 ev1
    change pv1 = v1.toInt at ev1; subst ev1
    refine r_ite (pc_eq rfl (eI (0 : Int32) (by decide))) ?_ ?_
    · exact r_some (qP_i (qI_i (eI (-2 : Int32) (by decide))) (qM_i hm))
    · refine r_bind (A := qI) (rf_X2_isIn rfl (eI (1 : Int32) (by decide)) (eI (99 : Int32) (by decide))) ?_
      rintro pv2 v2 ev2
      change pv2 = v2.toInt at ev2; subst ev2
      refine r_ite (pc_eq rfl (eI (0 : Int32) (by decide))) ?_ ?_
      · exact r_some (qP_i (qI_i (eI (-2 : Int32) (by decide))) (qM_i hm))
      · refine r_gr (d := 1) hm (lm_o hL) (lm_f0 hL) ?_
        refine r_ald (lm_k1 hL) (eI (5 : Int32) (by decide)) (fun _ => rfl) (fun v4 => ?_)
        refine r_ite (pc_eq rfl (eI (8 : Int32) (by decide))) ?_ ?_
        · exact r_some (qP_i (qI_i (eI (-2 : Int32) (by decide))) (qM_i hm))
        · refine r_gr (d := 1) hm (lm_o hL) (lm_f0 hL) ?_
          refine r_gr (d := 1) hm (lm_o hL) (lm_f0 hL) ?_
          refine r_ald (lm_k1 hL) (eI (5 : Int32) (by decide)) (fun _ => rfl) (fun v7 => ?_)
          refine r_p32 (px_add (px_n (133 : Int32) (by decide)) (px_mul (px_n (2 : Int32) (by decide)) (px_v _))) ?_
          refine r_ast hm (lm_k1 hL) hL.1 (wM (by omega)) rfl rfl (fun _ => rfl) (fun m8 hm8 => ?_)
          refine r_gr (d := 1) hm8 (lm_o hL) (lm_f0 hL) ?_
          refine r_gr (d := 1) hm8 (lm_o hL) (lm_f0 hL) ?_
          refine r_ald (lm_k1 hL) (eI (5 : Int32) (by decide)) (fun _ => rfl) (fun v11 => ?_)
          refine r_p32 (px_add (px_add (px_n (133 : Int32) (by decide)) (px_mul (px_n (2 : Int32) (by decide)) (px_v _))) (px_n (1 : Int32) (by decide))) ?_
          refine r_ast hm8 (lm_k1 hL) hL.1 (wM (by omega)) rfl rfl (fun _ => rfl) (fun m12 hm12 => ?_)
          refine r_gr (d := 1) hm12 (lm_o hL) (lm_f0 hL) ?_
          refine r_ald (lm_k1 hL) (eI (5 : Int32) (by decide)) (fun _ => rfl) (fun v14 => ?_)
          refine r_p32 (px_add (px_v _) (px_n (1 : Int32) (by decide))) ?_
          refine r_ast hm12 (lm_k1 hL) hL.1 (wM (by omega)) (eI (5 : Int32) (by decide)) rfl (fun _ => rfl) (fun m15 hm15 => ?_)
          refine r_gr (d := 1) hm15 (lm_o hL) (lm_f0 hL) ?_
          refine r_ald (lm_k1 hL) (eI (5 : Int32) (by decide)) (fun _ => rfl) (fun v17 => ?_)
          exact r_some (qP_i (qI_i rfl) (qM_i hm15))
def pb_X2_bits_4  : (Int × Int) → Option (Int ⊕ (Int × Int)) := fun (v4, v5) =>
if v5 = 0 then (some (.inl v4))
else (p32 (v4 + 1) fun v6 =>
p32 (v5 - 1) fun x1 =>
zlt (pand v5 x1) fun v7 =>
some (.inr (v6, v7)))
set_option maxHeartbeats 4000000 in
theorem rb_X2_bits_4  : ∀ s t, (qP qI qI) s t → pRf (qS qI (qP qI qI)) (pb_X2_bits_4 s) (b_X2_bits_4 t) := by
  rintro ⟨pv4, pv5⟩ ⟨v4, v5⟩ ⟨ev4, ev5⟩
  change pv4 = v4.toInt at ev4; subst ev4
  change pv5 = v5.toInt at ev5; subst ev5
  unfold pb_X2_bits_4 b_X2_bits_4
  try dsimp only
  refine r_ite (pc_eq rfl (eI (0 : Int32) (by decide))) ?_ ?_
  · exact r_some (qS_l (qI_i rfl))
  · refine r_lt32 (px_add (px_v _) (px_n (1 : Int32) (by decide))) (fun v6 => ?_)
    refine r_p32 (px_sub (px_v _) (px_n (1 : Int32) (by decide))) ?_
    refine r_ltx (pe_and rfl rfl) (fun v7 => ?_)
    exact r_some (qS_r (qP_i (qI_i rfl) (qI_i rfl)))
def p_X2_bits (a0 : Int) : Option Int :=
(zLoop pb_X2_bits_4 zFuel (0, a0)).bind fun v2 =>
some (v2)
set_option maxHeartbeats 4000000 in
theorem rf_X2_bits {pa0 : Int} {a0 : Int32} (ea0 : pa0 = a0.toInt) : pRf qI (p_X2_bits pa0) (f_X2_bits a0) := by
  subst ea0
  unfold p_X2_bits f_X2_bits
  refine r_bind (A := qI) (r_loop rb_X2_bits_4 zFuel _ _ (qP_i (qI_i (eI (0 : Int32) (by decide))) (qI_i rfl))) ?_
  rintro pv2 v2 ev2
  change pv2 = v2.toInt at ev2; subst ev2
  exact r_some (qI_i rfl)
def pb_X2_sumOf_5 (S : zP) (a1 : Int) (a2 : Int) : (Int × Int) → Option (Int ⊕ (Int × Int)) := fun (v4, v5) =>
(pald S 1 1450 5).bind fun v7 =>
if v7 ≤ v5 then (some (.inl v4))
else ((p_X2_has a1 v5).bind fun v8 =>
if v8 = 0 then (p32 (v4 + 0) fun v9 =>
p32 (v5 + 1) fun v10 =>
some (.inr (v9, v10)))
else (p32 ((133 + (2 * v5)) + a2) fun x1 =>
(pald S 1 1450 x1).bind fun v12 =>
p32 (v4 + v12) fun v13 =>
p32 (v5 + 1) fun v14 =>
some (.inr (v13, v14))))
set_option maxHeartbeats 4000000 in
theorem rb_X2_sumOf_5 {g : zGd} {M : Nat} {m0 : zMm} (hL : pLM g (zR m0) M) {m : zMm} (hm : pOk (bM M) m0 m) {pa1 : Int} {a1 : Int32} (ea1 : pa1 = a1.toInt) {pa2 : Int} {a2 : Int32} (ea2 : pa2 = a2.toInt) : ∀ s t, (qP qI qI) s t → pRf (qS qI (qP qI qI)) (pb_X2_sumOf_5 (pI (bM M) m) pa1 pa2 s) (b_X2_sumOf_5 g m (some ((bM M).1 + 0)) a1 a2 t) := by
  subst ea1
  subst ea2
  rintro ⟨pv4, pv5⟩ ⟨v4, v5⟩ ⟨ev4, ev5⟩
  change pv4 = v4.toInt at ev4; subst ev4
  change pv5 = v5.toInt at ev5; subst ev5
  unfold pb_X2_sumOf_5 b_X2_sumOf_5
  try dsimp only
  refine r_gr (d := 1) hm (lm_o hL) (lm_f0 hL) ?_
  refine r_ald (lm_k1 hL) (eI (5 : Int32) (by decide)) (fun _ => rfl) (fun v7 => ?_)
  refine r_ite (pc_le rfl rfl) ?_ ?_
  · exact r_some (qS_l (qI_i rfl))
  · refine r_bind (A := qI) (rf_X2_has rfl rfl) ?_
    rintro pv8 v8 ev8
    change pv8 = v8.toInt at ev8; subst ev8
    refine r_ite (pc_eq rfl (eI (0 : Int32) (by decide))) ?_ ?_
    · refine r_lt32 (px_add (px_v _) (px_n (0 : Int32) (by decide))) (fun v9 => ?_)
      refine r_lt32 (px_add (px_v _) (px_n (1 : Int32) (by decide))) (fun v10 => ?_)
      exact r_some (qS_r (qP_i (qI_i rfl) (qI_i rfl)))
    · refine r_gr (d := 1) hm (lm_o hL) (lm_f0 hL) ?_
      refine r_p32 (px_add (px_add (px_n (133 : Int32) (by decide)) (px_mul (px_n (2 : Int32) (by decide)) (px_v _))) (px_v _)) ?_
      refine r_ald (lm_k1 hL) rfl (fun _ => rfl) (fun v12 => ?_)
      refine r_lt32 (px_add (px_v _) (px_v _)) (fun v13 => ?_)
      refine r_lt32 (px_add (px_v _) (px_n (1 : Int32) (by decide))) (fun v14 => ?_)
      exact r_some (qS_r (qP_i (qI_i rfl) (qI_i rfl)))
def p_X2_sumOf (S : zP) (a1 : Int) (a2 : Int) : Option Int :=
(zLoop (pb_X2_sumOf_5 S a1 a2) zFuel (0, 0)).bind fun v2 =>
some (v2)
set_option maxHeartbeats 4000000 in
theorem rf_X2_sumOf {g : zGd} {M : Nat} {m0 : zMm} (hL : pLM g (zR m0) M) {m : zMm} (hm : pOk (bM M) m0 m) {pa1 : Int} {a1 : Int32} (ea1 : pa1 = a1.toInt) {pa2 : Int} {a2 : Int32} (ea2 : pa2 = a2.toInt) : pRf qI (p_X2_sumOf (pI (bM M) m) pa1 pa2) (f_X2_sumOf g m (some ((bM M).1 + 0)) a1 a2) := by
  subst ea1
  subst ea2
  unfold p_X2_sumOf f_X2_sumOf
  refine r_bind (A := qI) (r_loop (rb_X2_sumOf_5 hL hm rfl rfl) zFuel _ _ (qP_i (qI_i (eI (0 : Int32) (by decide))) (qI_i (eI (0 : Int32) (by decide))))) ?_
  rintro pv2 v2 ev2
  change pv2 = v2.toInt at ev2; subst ev2
  exact r_some (qI_i rfl)
def pb_X2_least_18 (S : zP) (a1 : Int) : (Int × Int) → Option (Int ⊕ (Int × Int)) := fun (v5, v6) =>
(pald S 1 1450 5).bind fun v8 =>
zlt (pshl 1 v8) fun x1 =>
if x1 ≤ v6 then (some (.inl v5))
else ((p_X2_sumOf S v6 1).bind fun v9 =>
if a1 ≤ v9 then (((if v5 = (-1) then (some ((-1)))
else ((p_X2_sumOf S v6 0).bind fun v12 =>
(p_X2_sumOf S v5 0).bind fun v13 =>
p32 (v12 - v13) fun x2 =>
some (x2)) : Option Int)).bind fun v11 =>
if v11 < 0 then (p32 (v6 + 1) fun v14 =>
some (.inr (v6, v14)))
else (if v11 = 0 then ((p_X2_bits v6).bind fun v16 =>
(p_X2_bits v5).bind fun v17 =>
if v17 ≤ v16 then (p32 (v6 + 1) fun v18 =>
some (.inr (v5, v18)))
else (p32 (v6 + 1) fun v19 =>
some (.inr (v6, v19))))
else (p32 (v6 + 1) fun v15 =>
some (.inr (v5, v15)))))
else (p32 (v6 + 1) fun v20 =>
some (.inr (v5, v20))))
set_option maxHeartbeats 4000000 in
theorem rb_X2_least_18 {g : zGd} {M : Nat} {m0 : zMm} (hL : pLM g (zR m0) M) {m : zMm} (hm : pOk (bM M) m0 m) {pa1 : Int} {a1 : Int32} (ea1 : pa1 = a1.toInt) : ∀ s t, (qP qI qI) s t → pRf (qS qI (qP qI qI)) (pb_X2_least_18 (pI (bM M) m) pa1 s) (b_X2_least_18 g m (some ((bM M).1 + 0)) a1 t) := by
  subst ea1
  rintro ⟨pv5, pv6⟩ ⟨v5, v6⟩ ⟨ev5, ev6⟩
  change pv5 = v5.toInt at ev5; subst ev5
  change pv6 = v6.toInt at ev6; subst ev6
  unfold pb_X2_least_18 b_X2_least_18
  try dsimp only
  refine r_gr (d := 1) hm (lm_o hL) (lm_f0 hL) ?_
  refine r_ald (lm_k1 hL) (eI (5 : Int32) (by decide)) (fun _ => rfl) (fun v8 => ?_)
  refine r_x32 (pe_shl (eI (1 : Int32) (by decide)) rfl) ?_
  refine r_ite (pc_le rfl rfl) ?_ ?_
  · exact r_some (qS_l (qI_i rfl))
  · refine r_bind (A := qI) (r_rc (B := (bM M)) (c := 0) (lm_o hL) (rf_X2_sumOf hL hm rfl (eI (1 : Int32) (by decide)))) ?_
    rintro pv9 v9 ev9
    change pv9 = v9.toInt at ev9; subst ev9
    refine r_ite (pc_le rfl rfl) ?_ ?_
    · refine r_bind (A := qI) ?_ ?_
      · refine r_ite (pc_eq rfl (eI (-1 : Int32) (by decide))) ?_ ?_
        · exact r_some (qI_i (eI (-1 : Int32) (by decide)))
        · refine r_bind (A := qI) (r_rc (B := (bM M)) (c := 0) (lm_o hL) (rf_X2_sumOf hL hm rfl (eI (0 : Int32) (by decide)))) ?_
          rintro pv12 v12 ev12
          change pv12 = v12.toInt at ev12; subst ev12
          refine r_bind (A := qI) (r_rc (B := (bM M)) (c := 0) (lm_o hL) (rf_X2_sumOf hL hm rfl (eI (0 : Int32) (by decide)))) ?_
          rintro pv13 v13 ev13
          change pv13 = v13.toInt at ev13; subst ev13
          refine r_p32 (px_sub (px_v _) (px_v _)) ?_
          exact r_some (qI_i rfl)
      rintro pv11 v11 ev11
      change pv11 = v11.toInt at ev11; subst ev11
      refine r_ite (pc_lt rfl (eI (0 : Int32) (by decide))) ?_ ?_
      · refine r_lt32 (px_add (px_v _) (px_n (1 : Int32) (by decide))) (fun v14 => ?_)
        exact r_some (qS_r (qP_i (qI_i rfl) (qI_i rfl)))
      · refine r_ite (pc_eq rfl (eI (0 : Int32) (by decide))) ?_ ?_
        · refine r_bind (A := qI) (rf_X2_bits rfl) ?_
          rintro pv16 v16 ev16
          change pv16 = v16.toInt at ev16; subst ev16
          refine r_bind (A := qI) (rf_X2_bits rfl) ?_
          rintro pv17 v17 ev17
          change pv17 = v17.toInt at ev17; subst ev17
          refine r_ite (pc_le rfl rfl) ?_ ?_
          · refine r_lt32 (px_add (px_v _) (px_n (1 : Int32) (by decide))) (fun v18 => ?_)
            exact r_some (qS_r (qP_i (qI_i rfl) (qI_i rfl)))
          · refine r_lt32 (px_add (px_v _) (px_n (1 : Int32) (by decide))) (fun v19 => ?_)
            exact r_some (qS_r (qP_i (qI_i rfl) (qI_i rfl)))
        · refine r_lt32 (px_add (px_v _) (px_n (1 : Int32) (by decide))) (fun v15 => ?_)
          exact r_some (qS_r (qP_i (qI_i rfl) (qI_i rfl)))
    · refine r_lt32 (px_add (px_v _) (px_n (1 : Int32) (by decide))) (fun v20 => ?_)
      exact r_some (qS_r (qP_i (qI_i rfl) (qI_i rfl)))
def p_X2_least (S : zP) (a1 : Int) (a2 : Int) : Option Int :=
(p_X2_isIn a1 0 999).bind fun v1 =>
if v1 = 0 then (some ((-1)))
else ((zLoop (pb_X2_least_18 S a1) zFuel ((-1), 0)).bind fun v3 =>
if v3 = (-1) then (some ((-1)))
else (if a2 = 0 then (some (v3))
else ((p_X2_sumOf S v3 0).bind fun v21 =>
some (v21))))
set_option maxHeartbeats 4000000 in
theorem rf_X2_least {g : zGd} {M : Nat} {m0 : zMm} (hL : pLM g (zR m0) M) {m : zMm} (hm : pOk (bM M) m0 m) {pa1 : Int} {a1 : Int32} (ea1 : pa1 = a1.toInt) {pa2 : Int} {a2 : Int32} (ea2 : pa2 = a2.toInt) : pRf qI (p_X2_least (pI (bM M) m) pa1 pa2) (f_X2_least g m (some ((bM M).1 + 0)) a1 a2) := by
  subst ea1
  subst ea2
  unfold p_X2_least f_X2_least
  refine r_bind (A := qI) (rf_X2_isIn rfl (eI (0 : Int32) (by decide)) (eI (999 : Int32) (by decide))) ?_
  rintro pv1 v1 ev1
  change pv1 = v1.toInt at ev1; subst ev1
  refine r_ite (pc_eq rfl (eI (0 : Int32) (by decide))) ?_ ?_
  · exact r_some (qI_i (eI (-1 : Int32) (by decide)))
  · refine r_bind (A := qI) (r_loop (rb_X2_least_18 hL hm rfl) zFuel _ _ (qP_i (qI_i (eI (-1 : Int32) (by decide))) (qI_i (eI (0 : Int32) (by decide))))) ?_
    rintro pv3 v3 ev3
    change pv3 = v3.toInt at ev3; subst ev3
    refine r_ite (pc_eq rfl (eI (-1 : Int32) (by decide))) ?_ ?_
    · exact r_some (qI_i (eI (-1 : Int32) (by decide)))
    · refine r_ite (pc_eq rfl (eI (0 : Int32) (by decide))) ?_ ?_
      · exact r_some (qI_i rfl)
      · refine r_bind (A := qI) (r_rc (B := (bM M)) (c := 0) (lm_o hL) (rf_X2_sumOf hL hm rfl (eI (0 : Int32) (by decide)))) ?_
        rintro pv21 v21 ev21
        change pv21 = v21.toInt at ev21; subst ev21
        exact r_some (qI_i rfl)
def pb_X2_longDivisor_6  : (Int × Int) → Option (Int ⊕ (Int × Int)) := fun (w4, w5) =>
if w5 = 0 then (some (.inl w4))
else ((pjmod w4 w5).bind fun w6 =>
some (.inr (w5, w6)))
set_option maxHeartbeats 4000000 in
theorem rb_X2_longDivisor_6  : ∀ s t, (qP qJ qJ) s t → pRf (qS qJ (qP qJ qJ)) (pb_X2_longDivisor_6 s) (b_X2_longDivisor_6 t) := by
  rintro ⟨pw4, pw5⟩ ⟨w4, w5⟩ ⟨ew4, ew5⟩
  change pw4 = w4.toInt at ew4; subst ew4
  change pw5 = w5.toInt at ew5; subst ew5
  unfold pb_X2_longDivisor_6 b_X2_longDivisor_6
  try dsimp only
  refine r_ite (pcj_eq rfl (eJ (0 : Int64) (by decide))) ?_ ?_
  · exact r_some (qS_l (qJ_i rfl))
  · refine r_lmod rfl rfl (fun w6 => ?_)
    exact r_some (qS_r (qP_i (qJ_i rfl) (qJ_i rfl)))
def p_X2_longDivisor (a0 : Int) (a2 : Int) : Option Int :=
(zLoop pb_X2_longDivisor_6 zFuel (a0, a2)).bind fun w2 =>
some (w2)
set_option maxHeartbeats 4000000 in
theorem rf_X2_longDivisor {pa0 : Int} {a0 : Int64} (ea0 : pa0 = a0.toInt) {pa2 : Int} {a2 : Int64} (ea2 : pa2 = a2.toInt) : pRf qJ (p_X2_longDivisor pa0 pa2) (f_X2_longDivisor a0 a2) := by
  subst ea0
  subst ea2
  unfold p_X2_longDivisor f_X2_longDivisor
  refine r_bind (A := qJ) (r_loop rb_X2_longDivisor_6 zFuel _ _ (qP_i (qJ_i rfl) (qJ_i rfl))) ?_
  rintro pw2 w2 ew2
  change pw2 = w2.toInt at ew2; subst ew2
  exact r_some (qJ_i rfl)
def pb_X2_waysOf_17 (a0 : Int) (a2 : Int) (v5 : Int) : (Int × Int) → Option (Int ⊕ (Int × Int)) := fun (w9, v10) =>
p32 (a2 - 1) fun x1 =>
if x1 ≤ v10 then (some (.inl w9))
else (if v5 ≤ v10 then (p64 (w9 * a0) fun w11 =>
p32 (v10 + 1) fun v12 =>
some (.inr (w11, v12)))
else (p32 (10 - a0) fun x2 =>
p64 (w9 * x2) fun w13 =>
p32 (v10 + 1) fun v14 =>
some (.inr (w13, v14))))
set_option maxHeartbeats 4000000 in
theorem rb_X2_waysOf_17 {pa0 : Int} {a0 : Int32} (ea0 : pa0 = a0.toInt) {pa2 : Int} {a2 : Int32} (ea2 : pa2 = a2.toInt) {pv5 : Int} {v5 : Int32} (ev5 : pv5 = v5.toInt) : ∀ s t, (qP qJ qI) s t → pRf (qS qJ (qP qJ qI)) (pb_X2_waysOf_17 pa0 pa2 pv5 s) (b_X2_waysOf_17 a0 a2 v5 t) := by
  subst ea0
  subst ea2
  subst ev5
  rintro ⟨pw9, pv10⟩ ⟨w9, v10⟩ ⟨ew9, ev10⟩
  change pw9 = w9.toInt at ew9; subst ew9
  change pv10 = v10.toInt at ev10; subst ev10
  unfold pb_X2_waysOf_17 b_X2_waysOf_17
  try dsimp only
  refine r_p32 (px_sub (px_v _) (px_n (1 : Int32) (by decide))) ?_
  refine r_ite (pc_le rfl rfl) ?_ ?_
  · exact r_some (qS_l (qJ_i rfl))
  · refine r_ite (pc_le rfl rfl) ?_ ?_
    · refine r_lt64 (pj_mul (pj_v _) (pj_i _)) (fun w11 => ?_)
      refine r_lt32 (px_add (px_v _) (px_n (1 : Int32) (by decide))) (fun v12 => ?_)
      exact r_some (qS_r (qP_i (qJ_i rfl) (qI_i rfl)))
    · refine r_p32 (px_sub (px_n (10 : Int32) (by decide)) (px_v _)) ?_
      refine r_lt64 (pj_mul (pj_v _) (pj_i _)) (fun w13 => ?_)
      refine r_lt32 (px_add (px_v _) (px_n (1 : Int32) (by decide))) (fun v14 => ?_)
      exact r_some (qS_r (qP_i (qJ_i rfl) (qI_i rfl)))
def pb_X2_waysOf_5 (a0 : Int) (a1 : Int) (a2 : Int) : (Int × Int) → Option (Int ⊕ (Int × Int)) := fun (w4, v5) =>
if a1 ≤ v5 then (some (.inl w4))
else ((zLoop (pb_X2_waysOf_17 a0 a2 v5) zFuel (1, 0)).bind fun w7 =>
p64 (w4 + w7) fun w15 =>
p32 (v5 + 1) fun v16 =>
some (.inr (w15, v16)))
set_option maxHeartbeats 4000000 in
theorem rb_X2_waysOf_5 {pa0 : Int} {a0 : Int32} (ea0 : pa0 = a0.toInt) {pa1 : Int} {a1 : Int32} (ea1 : pa1 = a1.toInt) {pa2 : Int} {a2 : Int32} (ea2 : pa2 = a2.toInt) : ∀ s t, (qP qJ qI) s t → pRf (qS qJ (qP qJ qI)) (pb_X2_waysOf_5 pa0 pa1 pa2 s) (b_X2_waysOf_5 a0 a1 a2 t) := by
  subst ea0
  subst ea1
  subst ea2
  rintro ⟨pw4, pv5⟩ ⟨w4, v5⟩ ⟨ew4, ev5⟩
  change pw4 = w4.toInt at ew4; subst ew4
  change pv5 = v5.toInt at ev5; subst ev5
  unfold pb_X2_waysOf_5 b_X2_waysOf_5
  try dsimp only
  refine r_ite (pc_le rfl rfl) ?_ ?_
  · exact r_some (qS_l (qJ_i rfl))
  · refine r_bind (A := qJ) (r_loop (rb_X2_waysOf_17 rfl rfl rfl) zFuel _ _ (qP_i (qJ_i (eJ (1 : Int64) (by decide))) (qI_i (eI (0 : Int32) (by decide))))) ?_
    rintro pw7 w7 ew7
    change pw7 = w7.toInt at ew7; subst ew7
    refine r_lt64 (pj_add (pj_v _) (pj_v _)) (fun w15 => ?_)
    refine r_lt32 (px_add (px_v _) (px_n (1 : Int32) (by decide))) (fun v16 => ?_)
    exact r_some (qS_r (qP_i (qJ_i rfl) (qI_i rfl)))
def p_X2_waysOf (a0 : Int) (a1 : Int) (a2 : Int) : Option Int :=
(zLoop (pb_X2_waysOf_5 a0 a1 a2) zFuel (0, 0)).bind fun w2 =>
some (w2)
set_option maxHeartbeats 4000000 in
theorem rf_X2_waysOf {pa0 : Int} {a0 : Int32} (ea0 : pa0 = a0.toInt) {pa1 : Int} {a1 : Int32} (ea1 : pa1 = a1.toInt) {pa2 : Int} {a2 : Int32} (ea2 : pa2 = a2.toInt) : pRf qJ (p_X2_waysOf pa0 pa1 pa2) (f_X2_waysOf a0 a1 a2) := by
  subst ea0
  subst ea1
  subst ea2
  unfold p_X2_waysOf f_X2_waysOf
  refine r_bind (A := qJ) (r_loop (rb_X2_waysOf_5 rfl rfl rfl) zFuel _ _ (qP_i (qJ_i (eJ (0 : Int64) (by decide))) (qI_i (eI (0 : Int32) (by decide))))) ?_
  rintro pw2 w2 ew2
  change pw2 = w2.toInt at ew2; subst ew2
  exact r_some (qJ_i rfl)
def p_X2_near (S : zP) (a1 : Int) (a2 : Int) (a3 : Int) (a4 : Int) : Option Int :=
(p_X2_isIn a1 1 9).bind fun v1 =>
if v1 = 0 then (some ((-1)))
else ((p_X2_isIn a3 1 12).bind fun v2 =>
if v2 = 0 then (some ((-1)))
else ((p_X2_isIn a2 0 a3).bind fun v3 =>
if v3 = 0 then (some ((-1)))
else ((p_X2_waysOf a1 a2 a3).bind fun w4 =>
(p_X2_waysOf a1 a3 a3).bind fun w5 =>
((if a4 = 0 then (some (w4))
else (some (w5)) : Option Int)).bind fun w7 =>
(p_X2_longDivisor w4 w5).bind fun w8 =>
(pjdiv w7 w8).bind fun w9 =>
some (w9))))
set_option maxHeartbeats 4000000 in
theorem rf_X2_near {g : zGd} {M : Nat} {m0 : zMm} (hL : pLM g (zR m0) M) {m : zMm} (hm : pOk (bM M) m0 m) {pa1 : Int} {a1 : Int32} (ea1 : pa1 = a1.toInt) {pa2 : Int} {a2 : Int32} (ea2 : pa2 = a2.toInt) {pa3 : Int} {a3 : Int32} (ea3 : pa3 = a3.toInt) {pa4 : Int} {a4 : Int32} (ea4 : pa4 = a4.toInt) : pRf qJ (p_X2_near (pI (bM M) m) pa1 pa2 pa3 pa4) (f_X2_near g m (some ((bM M).1 + 0)) a1 a2 a3 a4) := by
  subst ea1
  subst ea2
  subst ea3
  subst ea4
  unfold p_X2_near f_X2_near
  refine r_bind (A := qI) (rf_X2_isIn rfl (eI (1 : Int32) (by decide)) (eI (9 : Int32) (by decide))) ?_
  rintro pv1 v1 ev1
  change pv1 = v1.toInt at ev1; subst ev1
  refine r_ite (pc_eq rfl (eI (0 : Int32) (by decide))) ?_ ?_
  · exact r_some (qJ_i (eJ (-1 : Int64) (by decide)))
  · refine r_bind (A := qI) (rf_X2_isIn rfl (eI (1 : Int32) (by decide)) (eI (12 : Int32) (by decide))) ?_
    rintro pv2 v2 ev2
    change pv2 = v2.toInt at ev2; subst ev2
    refine r_ite (pc_eq rfl (eI (0 : Int32) (by decide))) ?_ ?_
    · exact r_some (qJ_i (eJ (-1 : Int64) (by decide)))
    · refine r_bind (A := qI) (rf_X2_isIn rfl (eI (0 : Int32) (by decide)) rfl) ?_
      rintro pv3 v3 ev3
      change pv3 = v3.toInt at ev3; subst ev3
      refine r_ite (pc_eq rfl (eI (0 : Int32) (by decide))) ?_ ?_
      · exact r_some (qJ_i (eJ (-1 : Int64) (by decide)))
      · refine r_bind (A := qJ) (rf_X2_waysOf rfl rfl rfl) ?_
        rintro pw4 w4 ew4
        change pw4 = w4.toInt at ew4; subst ew4
        refine r_bind (A := qJ) (rf_X2_waysOf rfl rfl rfl) ?_
        rintro pw5 w5 ew5
        change pw5 = w5.toInt at ew5; subst ew5
        refine r_bind (A := qJ) ?_ ?_
        · refine r_ite (pc_eq rfl (eI (0 : Int32) (by decide))) ?_ ?_
          · exact r_some (qJ_i rfl)
          · exact r_some (qJ_i rfl)
        rintro pw7 w7 ew7
        change pw7 = w7.toInt at ew7; subst ew7
        refine r_bind (A := qJ) (rf_X2_longDivisor rfl rfl) ?_
        rintro pw8 w8 ew8
        change pw8 = w8.toInt at ew8; subst ew8
        refine r_ldiv rfl rfl (fun w9 => ?_)
        exact r_some (qJ_i rfl)
def pb_X2_rowOf_4 (a1 : Int) : (Int × Int) → Option (Int ⊕ (Int × Int)) := fun (v4, v5) =>
if v5 ≤ a1 then (some (.inl v4))
else (zlt (pdv v4 6) fun v6 =>
p32 (v5 + (-1)) fun v7 =>
some (.inr (v6, v7)))
set_option maxHeartbeats 4000000 in
theorem rb_X2_rowOf_4 {pa1 : Int} {a1 : Int32} (ea1 : pa1 = a1.toInt) : ∀ s t, (qP qI qI) s t → pRf (qS qI (qP qI qI)) (pb_X2_rowOf_4 pa1 s) (b_X2_rowOf_4 a1 t) := by
  subst ea1
  rintro ⟨pv4, pv5⟩ ⟨v4, v5⟩ ⟨ev4, ev5⟩
  change pv4 = v4.toInt at ev4; subst ev4
  change pv5 = v5.toInt at ev5; subst ev5
  unfold pb_X2_rowOf_4 b_X2_rowOf_4
  try dsimp only
  refine r_ite (pc_le rfl rfl) ?_ ?_
  · exact r_some (qS_l (qI_i rfl))
  · refine r_ltx (pe_dv (by decide) rfl (eI (6 : Int32) (by decide))) (fun v6 => ?_)
    refine r_lt32 (px_add (px_v _) (px_n (-1 : Int32) (by decide))) (fun v7 => ?_)
    exact r_some (qS_r (qP_i (qI_i rfl) (qI_i rfl)))
def p_X2_rowOf (a0 : Int) (a1 : Int) : Option Int :=
(zLoop (pb_X2_rowOf_4 a1) zFuel (a0, 4)).bind fun v2 =>
zlt (prm v2 6) fun x1 =>
some (x1)
set_option maxHeartbeats 4000000 in
theorem rf_X2_rowOf {pa0 : Int} {a0 : Int32} (ea0 : pa0 = a0.toInt) {pa1 : Int} {a1 : Int32} (ea1 : pa1 = a1.toInt) : pRf qI (p_X2_rowOf pa0 pa1) (f_X2_rowOf a0 a1) := by
  subst ea0
  subst ea1
  unfold p_X2_rowOf f_X2_rowOf
  refine r_bind (A := qI) (r_loop (rb_X2_rowOf_4 rfl) zFuel _ _ (qP_i (qI_i rfl) (qI_i (eI (4 : Int32) (by decide))))) ?_
  rintro pv2 v2 ev2
  change pv2 = v2.toInt at ev2; subst ev2
  refine r_x32 (pe_rm (by decide) rfl (eI (6 : Int32) (by decide))) ?_
  exact r_some (qI_i rfl)
def pb_X2_bitten_5 (a0 : Int) (a1 : Int) (a2 : Int) : (Int × Int) → Option (Int ⊕ (Int × Int)) := fun (v4, v5) =>
if 5 ≤ v5 then (some (.inl v4))
else (zEx (σ := Unit) (if v5 < a1 then (some (.inr ()))
else ((p_X2_rowOf a0 v5).bind fun v7 =>
if v7 ≤ a2 then (some (.inr ()))
else (p32 ((6 * v4) + a2) fun v8 =>
p32 (v5 + 1) fun v9 =>
some (.inl (.inr (v8, v9)))))) fun _ =>
(p_X2_rowOf a0 v5).bind fun v10 =>
p32 ((6 * v4) + v10) fun v11 =>
p32 (v5 + 1) fun v12 =>
some (.inr (v11, v12)))
set_option maxHeartbeats 4000000 in
theorem rb_X2_bitten_5 {pa0 : Int} {a0 : Int32} (ea0 : pa0 = a0.toInt) {pa1 : Int} {a1 : Int32} (ea1 : pa1 = a1.toInt) {pa2 : Int} {a2 : Int32} (ea2 : pa2 = a2.toInt) : ∀ s t, (qP qI qI) s t → pRf (qS qI (qP qI qI)) (pb_X2_bitten_5 pa0 pa1 pa2 s) (b_X2_bitten_5 a0 a1 a2 t) := by
  subst ea0
  subst ea1
  subst ea2
  rintro ⟨pv4, pv5⟩ ⟨v4, v5⟩ ⟨ev4, ev5⟩
  change pv4 = v4.toInt at ev4; subst ev4
  change pv5 = v5.toInt at ev5; subst ev5
  unfold pb_X2_bitten_5 b_X2_bitten_5
  try dsimp only
  refine r_ite (pc_le (eI (5 : Int32) (by decide)) rfl) ?_ ?_
  · exact r_some (qS_l (qI_i rfl))
  · refine r_ex (Q := (qS qI (qP qI qI))) (R := qU) ?_ ?_
    · refine r_ite (pc_lt rfl rfl) ?_ ?_
      · exact r_some (qS_r qU_i)
      · refine r_bind (A := qI) (rf_X2_rowOf rfl rfl) ?_
        rintro pv7 v7 ev7
        change pv7 = v7.toInt at ev7; subst ev7
        refine r_ite (pc_le rfl rfl) ?_ ?_
        · exact r_some (qS_r qU_i)
        · refine r_lt32 (px_add (px_mul (px_n (6 : Int32) (by decide)) (px_v _)) (px_v _)) (fun v8 => ?_)
          refine r_lt32 (px_add (px_v _) (px_n (1 : Int32) (by decide))) (fun v9 => ?_)
          exact r_some (qS_l (qS_r (qP_i (qI_i rfl) (qI_i rfl))))
    rintro _ _ _
    refine r_bind (A := qI) (rf_X2_rowOf rfl rfl) ?_
    rintro pv10 v10 ev10
    change pv10 = v10.toInt at ev10; subst ev10
    refine r_lt32 (px_add (px_mul (px_n (6 : Int32) (by decide)) (px_v _)) (px_v _)) (fun v11 => ?_)
    refine r_lt32 (px_add (px_v _) (px_n (1 : Int32) (by decide))) (fun v12 => ?_)
    exact r_some (qS_r (qP_i (qI_i rfl) (qI_i rfl)))
def p_X2_bitten (a0 : Int) (a1 : Int) (a2 : Int) : Option Int :=
(zLoop (pb_X2_bitten_5 a0 a1 a2) zFuel (0, 0)).bind fun v2 =>
some (v2)
set_option maxHeartbeats 4000000 in
theorem rf_X2_bitten {pa0 : Int} {a0 : Int32} (ea0 : pa0 = a0.toInt) {pa1 : Int} {a1 : Int32} (ea1 : pa1 = a1.toInt) {pa2 : Int} {a2 : Int32} (ea2 : pa2 = a2.toInt) : pRf qI (p_X2_bitten pa0 pa1 pa2) (f_X2_bitten a0 a1 a2) := by
  subst ea0
  subst ea1
  subst ea2
  unfold p_X2_bitten f_X2_bitten
  refine r_bind (A := qI) (r_loop (rb_X2_bitten_5 rfl rfl rfl) zFuel _ _ (qP_i (qI_i (eI (0 : Int32) (by decide))) (qI_i (eI (0 : Int32) (by decide))))) ?_
  rintro pv2 v2 ev2
  change pv2 = v2.toInt at ev2; subst ev2
  exact r_some (qI_i rfl)
def pb_X2_biteOf_9 (S : zP) (a1 : Int) (v3 : Int) : Int → Option ((((Int ⊕ Unit) ⊕ Int) ⊕ Unit) ⊕ Int) := fun v6 =>
(p_X2_rowOf a1 v3).bind fun v7 =>
if v7 ≤ v6 then (some (.inl (.inr ())))
else ((p_X2_bitten a1 v3 v6).bind fun v9 =>
(pald S 15 7776 v9).bind fun v10 =>
if v10 = 0 then (p32 ((5 * v3) + v6) fun x1 =>
some (.inl (.inl (.inl (.inl x1)))))
else (p32 (v6 + 1) fun v11 =>
some (.inr v11)))
set_option maxHeartbeats 4000000 in
theorem rb_X2_biteOf_9 {g : zGd} {M : Nat} {m0 : zMm} (hL : pLM g (zR m0) M) {m : zMm} (hm : pOk (bM M) m0 m) {pa1 : Int} {a1 : Int32} (ea1 : pa1 = a1.toInt) {pv3 : Int} {v3 : Int32} (ev3 : pv3 = v3.toInt) : ∀ s t, qI s t → pRf (qS (qS (qS (qS qI qU) qI) qU) qI) (pb_X2_biteOf_9 (pI (bM M) m) pa1 pv3 s) (b_X2_biteOf_9 g m (some ((bM M).1 + 0)) a1 v3 t) := by
  subst ea1
  subst ev3
  rintro pv6 v6 ev6
  change pv6 = v6.toInt at ev6; subst ev6
  unfold pb_X2_biteOf_9 b_X2_biteOf_9
  try dsimp only
  refine r_bind (A := qI) (rf_X2_rowOf rfl rfl) ?_
  rintro pv7 v7 ev7
  change pv7 = v7.toInt at ev7; subst ev7
  refine r_ite (pc_le rfl rfl) ?_ ?_
  · exact r_some (qS_l (qS_r qU_i))
  · refine r_gr (d := 15) hm (lm_o hL) (lm_f38 hL) ?_
    refine r_bind (A := qI) (rf_X2_bitten rfl rfl rfl) ?_
    rintro pv9 v9 ev9
    change pv9 = v9.toInt at ev9; subst ev9
    refine r_ald (lm_k15 hL) rfl (fun _ => rfl) (fun v10 => ?_)
    refine r_ite (pc_eq rfl (eI (0 : Int32) (by decide))) ?_ ?_
    · refine r_p32 (px_add (px_mul (px_n (5 : Int32) (by decide)) (px_v _)) (px_v _)) ?_
      exact r_some (qS_l (qS_l (qS_l (qS_l (qI_i rfl)))))
    · refine r_lt32 (px_add (px_v _) (px_n (1 : Int32) (by decide))) (fun v11 => ?_)
      exact r_some (qS_r (qI_i rfl))
def pb_X2_biteOf_2 (S : zP) (a1 : Int) : Int → Option ((Int ⊕ Unit) ⊕ Int) := fun v3 =>
if 5 ≤ v3 then (some (.inl (.inr ())))
else (zEx (σ := Unit) (zLoop (pb_X2_biteOf_9 S a1 v3) zFuel 0) fun _ =>
p32 (v3 + 1) fun v12 =>
some (.inr v12))
set_option maxHeartbeats 4000000 in
theorem rb_X2_biteOf_2 {g : zGd} {M : Nat} {m0 : zMm} (hL : pLM g (zR m0) M) {m : zMm} (hm : pOk (bM M) m0 m) {pa1 : Int} {a1 : Int32} (ea1 : pa1 = a1.toInt) : ∀ s t, qI s t → pRf (qS (qS qI qU) qI) (pb_X2_biteOf_2 (pI (bM M) m) pa1 s) (b_X2_biteOf_2 g m (some ((bM M).1 + 0)) a1 t) := by
  subst ea1
  rintro pv3 v3 ev3
  change pv3 = v3.toInt at ev3; subst ev3
  unfold pb_X2_biteOf_2 b_X2_biteOf_2
  try dsimp only
  refine r_ite (pc_le (eI (5 : Int32) (by decide)) rfl) ?_ ?_
  · exact r_some (qS_l (qS_r qU_i))
  · refine r_ex (Q := (qS (qS qI qU) qI)) (R := qU) ?_ ?_
    · exact (r_loop (rb_X2_biteOf_9 hL hm rfl rfl) zFuel _ _ (qI_i (eI (0 : Int32) (by decide))))
    rintro _ _ _
    refine r_lt32 (px_add (px_v _) (px_n (1 : Int32) (by decide))) (fun v12 => ?_)
    exact r_some (qS_r (qI_i rfl))
def p_X2_biteOf (S : zP) (a1 : Int) : Option Int :=
zEx (σ := Unit) (zLoop (pb_X2_biteOf_2 S a1) zFuel 0) fun _ =>
some ((-1))
set_option maxHeartbeats 4000000 in
theorem rf_X2_biteOf {g : zGd} {M : Nat} {m0 : zMm} (hL : pLM g (zR m0) M) {m : zMm} (hm : pOk (bM M) m0 m) {pa1 : Int} {a1 : Int32} (ea1 : pa1 = a1.toInt) : pRf qI (p_X2_biteOf (pI (bM M) m) pa1) (f_X2_biteOf g m (some ((bM M).1 + 0)) a1) := by
  subst ea1
  unfold p_X2_biteOf f_X2_biteOf
  refine r_ex (Q := qI) (R := qU) ?_ ?_
  · exact (r_loop (rb_X2_biteOf_2 hL hm rfl) zFuel _ _ (qI_i (eI (0 : Int32) (by decide))))
  rintro _ _ _
  exact r_some (qI_i (eI (-1 : Int32) (by decide)))
def pb_X2_isShape_2 (a0 : Int) : Int → Option ((Int ⊕ Unit) ⊕ Int) := fun v3 =>
if 5 ≤ v3 then (some (.inl (.inr ())))
else ((p_X2_rowOf a0 v3).bind fun v4 =>
p32 (v3 - 1) fun x1 =>
(p_X2_rowOf a0 x1).bind fun v5 =>
if v4 ≤ v5 then (p32 (v3 + 1) fun v6 =>
some (.inr v6))
else (some (.inl (.inl 0))))
set_option maxHeartbeats 4000000 in
theorem rb_X2_isShape_2 {pa0 : Int} {a0 : Int32} (ea0 : pa0 = a0.toInt) : ∀ s t, qI s t → pRf (qS (qS qI qU) qI) (pb_X2_isShape_2 pa0 s) (b_X2_isShape_2 a0 t) := by
  subst ea0
  rintro pv3 v3 ev3
  change pv3 = v3.toInt at ev3; subst ev3
  unfold pb_X2_isShape_2 b_X2_isShape_2
  try dsimp only
  refine r_ite (pc_le (eI (5 : Int32) (by decide)) rfl) ?_ ?_
  · exact r_some (qS_l (qS_r qU_i))
  · refine r_bind (A := qI) (rf_X2_rowOf rfl rfl) ?_
    rintro pv4 v4 ev4
    change pv4 = v4.toInt at ev4; subst ev4
    refine r_p32 (px_sub (px_v _) (px_n (1 : Int32) (by decide))) ?_
    refine r_bind (A := qI) (rf_X2_rowOf rfl rfl) ?_
    rintro pv5 v5 ev5
    change pv5 = v5.toInt at ev5; subst ev5
    refine r_ite (pc_le rfl rfl) ?_ ?_
    · refine r_lt32 (px_add (px_v _) (px_n (1 : Int32) (by decide))) (fun v6 => ?_)
      exact r_some (qS_r (qI_i rfl))
    · exact r_some (qS_l (qS_l (qI_i (eI (0 : Int32) (by decide)))))
def p_X2_isShape (a0 : Int) : Option Int :=
zEx (σ := Unit) (zLoop (pb_X2_isShape_2 a0) zFuel 1) fun _ =>
some (1)
set_option maxHeartbeats 4000000 in
theorem rf_X2_isShape {pa0 : Int} {a0 : Int32} (ea0 : pa0 = a0.toInt) : pRf qI (p_X2_isShape pa0) (f_X2_isShape a0) := by
  subst ea0
  unfold p_X2_isShape f_X2_isShape
  refine r_ex (Q := qI) (R := qU) ?_ ?_
  · exact (r_loop (rb_X2_isShape_2 rfl) zFuel _ _ (qI_i (eI (1 : Int32) (by decide))))
  rintro _ _ _
  exact r_some (qI_i (eI (1 : Int32) (by decide)))
def pb_X2_layWins_9 (a1 : Int) : (Int × zP) → Option (zP ⊕ (Int × zP)) := fun (v6, S7) =>
if a1 ≤ v6 then (some (.inl S7))
else ((p_X2_isShape v6).bind fun v8 =>
if v8 = 0 then (p32 (v6 + 1) fun v9 =>
some (.inr (v9, S7)))
else ((p_X2_biteOf S7 v6).bind fun v11 =>
if v11 = (-1) then (zlt (pnz 0) fun x1 =>
(past S7 15 7776 v6 x1).bind fun S12 =>
p32 (v6 + 1) fun v13 =>
some (.inr (v13, S12)))
else (zlt (pnz 1) fun x2 =>
(past S7 15 7776 v6 x2).bind fun S14 =>
p32 (v6 + 1) fun v15 =>
some (.inr (v15, S14)))))
set_option maxHeartbeats 4000000 in
theorem rb_X2_layWins_9 {g : zGd} {M : Nat} {m0 : zMm} (hL : pLM g (zR m0) M) {pa1 : Int} {a1 : Int32} (ea1 : pa1 = a1.toInt) : ∀ s t, (qP qI (qM (bM M) m0)) s t → pRf (qS (qM (bM M) m0) (qP qI (qM (bM M) m0))) (pb_X2_layWins_9 pa1 s) (b_X2_layWins_9 g (some ((bM M).1 + 0)) a1 t) := by
  subst ea1
  rintro ⟨pv6, S7⟩ ⟨v6, m7⟩ ⟨ev6, ⟨em7, hm7⟩⟩
  change pv6 = v6.toInt at ev6; subst ev6
  change S7 = pI (bM M) m7 at em7; subst em7
  unfold pb_X2_layWins_9 b_X2_layWins_9
  try dsimp only
  refine r_ite (pc_le rfl rfl) ?_ ?_
  · exact r_some (qS_l (qM_i hm7))
  · refine r_bind (A := qI) (rf_X2_isShape rfl) ?_
    rintro pv8 v8 ev8
    change pv8 = v8.toInt at ev8; subst ev8
    refine r_ite (pc_eq rfl (eI (0 : Int32) (by decide))) ?_ ?_
    · refine r_lt32 (px_add (px_v _) (px_n (1 : Int32) (by decide))) (fun v9 => ?_)
      exact r_some (qS_r (qP_i (qI_i rfl) (qM_i hm7)))
    · refine r_gr (d := 15) hm7 (lm_o hL) (lm_f38 hL) ?_
      refine r_bind (A := qI) (r_rc (B := (bM M)) (c := 0) (lm_o hL) (rf_X2_biteOf hL hm7 rfl)) ?_
      rintro pv11 v11 ev11
      change pv11 = v11.toInt at ev11; subst ev11
      refine r_ite (pc_eq rfl (eI (-1 : Int32) (by decide))) ?_ ?_
      · refine r_x32 (pe_nz (eI (0 : Int32) (by decide))) ?_
        refine r_ast hm7 (lm_k15 hL) hL.1 (wM (by omega)) rfl rfl (fun _ => rfl) (fun m12 hm12 => ?_)
        refine r_lt32 (px_add (px_v _) (px_n (1 : Int32) (by decide))) (fun v13 => ?_)
        exact r_some (qS_r (qP_i (qI_i rfl) (qM_i hm12)))
      · refine r_x32 (pe_nz (eI (1 : Int32) (by decide))) ?_
        refine r_ast hm7 (lm_k15 hL) hL.1 (wM (by omega)) rfl rfl (fun _ => rfl) (fun m14 hm14 => ?_)
        refine r_lt32 (px_add (px_v _) (px_n (1 : Int32) (by decide))) (fun v15 => ?_)
        exact r_some (qS_r (qP_i (qI_i rfl) (qM_i hm14)))
def p_X2_layWins (S : zP) (a1 : Int) : Option zP :=
zlt (pnz 1) fun x1 =>
(past S 15 7776 0 x1).bind fun S2 =>
(zLoop (pb_X2_layWins_9 a1) zFuel (1, S2)).bind fun S4 =>
some (S4)
set_option maxHeartbeats 4000000 in
theorem rf_X2_layWins {g : zGd} {M : Nat} {m0 : zMm} (hL : pLM g (zR m0) M) {m : zMm} (hm : pOk (bM M) m0 m) {pa1 : Int} {a1 : Int32} (ea1 : pa1 = a1.toInt) : pRf (qM (bM M) m0) (p_X2_layWins (pI (bM M) m) pa1) (f_X2_layWins g m (some ((bM M).1 + 0)) a1) := by
  subst ea1
  unfold p_X2_layWins f_X2_layWins
  refine r_gr (d := 15) hm (lm_o hL) (lm_f38 hL) ?_
  refine r_x32 (pe_nz (eI (1 : Int32) (by decide))) ?_
  refine r_ast hm (lm_k15 hL) hL.1 (wM (by omega)) (eI (0 : Int32) (by decide)) rfl (fun _ => rfl) (fun m2 hm2 => ?_)
  refine r_bind (A := (qM (bM M) m0)) (r_loop (rb_X2_layWins_9 hL rfl) zFuel _ _ (qP_i (qI_i (eI (1 : Int32) (by decide))) (qM_i hm2))) ?_
  rintro S4 m4 ⟨em4, hm4⟩
  change S4 = pI (bM M) m4 at em4; subst em4
  exact r_some (qM_i hm4)
def pb_X2_game_25 (a1 : Int) (a2 : Int) : (Int × Int) → Option (Int ⊕ (Int × Int)) := fun (v6, v7) =>
if 5 ≤ v7 then (some (.inl v6))
else (if a1 ≤ v7 then (p32 ((6 * v6) + 0) fun v8 =>
p32 (v7 + 1) fun v9 =>
some (.inr (v8, v9)))
else (p32 ((6 * v6) + a2) fun v10 =>
p32 (v7 + 1) fun v11 =>
some (.inr (v10, v11))))
set_option maxHeartbeats 4000000 in
theorem rb_X2_game_25 {pa1 : Int} {a1 : Int32} (ea1 : pa1 = a1.toInt) {pa2 : Int} {a2 : Int32} (ea2 : pa2 = a2.toInt) : ∀ s t, (qP qI qI) s t → pRf (qS qI (qP qI qI)) (pb_X2_game_25 pa1 pa2 s) (b_X2_game_25 a1 a2 t) := by
  subst ea1
  subst ea2
  rintro ⟨pv6, pv7⟩ ⟨v6, v7⟩ ⟨ev6, ev7⟩
  change pv6 = v6.toInt at ev6; subst ev6
  change pv7 = v7.toInt at ev7; subst ev7
  unfold pb_X2_game_25 b_X2_game_25
  try dsimp only
  refine r_ite (pc_le (eI (5 : Int32) (by decide)) rfl) ?_ ?_
  · exact r_some (qS_l (qI_i rfl))
  · refine r_ite (pc_le rfl rfl) ?_ ?_
    · refine r_lt32 (px_add (px_mul (px_n (6 : Int32) (by decide)) (px_v _)) (px_n (0 : Int32) (by decide))) (fun v8 => ?_)
      refine r_lt32 (px_add (px_v _) (px_n (1 : Int32) (by decide))) (fun v9 => ?_)
      exact r_some (qS_r (qP_i (qI_i rfl) (qI_i rfl)))
    · refine r_lt32 (px_add (px_mul (px_n (6 : Int32) (by decide)) (px_v _)) (px_v _)) (fun v10 => ?_)
      refine r_lt32 (px_add (px_v _) (px_n (1 : Int32) (by decide))) (fun v11 => ?_)
      exact r_some (qS_r (qP_i (qI_i rfl) (qI_i rfl)))
def p_X2_game (S : zP) (a1 : Int) (a2 : Int) : Option (Int × zP) :=
(p_X2_isIn a1 1 5).bind fun v1 =>
if v1 = 0 then (some (((-1), S)))
else ((p_X2_isIn a2 1 5).bind fun v2 =>
if v2 = 0 then (some (((-1), S)))
else ((zLoop (pb_X2_game_25 a1 a2) zFuel (0, 0)).bind fun v4 =>
(p_X2_layWins S v4).bind fun S12 =>
(p_X2_biteOf S12 v4).bind fun v13 =>
if v13 = (-1) then (some ((0, S12)))
else (some ((1, S12)))))
set_option maxHeartbeats 4000000 in
theorem rf_X2_game {g : zGd} {M : Nat} {m0 : zMm} (hL : pLM g (zR m0) M) {m : zMm} (hm : pOk (bM M) m0 m) {pa1 : Int} {a1 : Int32} (ea1 : pa1 = a1.toInt) {pa2 : Int} {a2 : Int32} (ea2 : pa2 = a2.toInt) : pRf (qP qI (qM (bM M) m0)) (p_X2_game (pI (bM M) m) pa1 pa2) (f_X2_game g m (some ((bM M).1 + 0)) a1 a2) := by
  subst ea1
  subst ea2
  unfold p_X2_game f_X2_game
  refine r_bind (A := qI) (rf_X2_isIn rfl (eI (1 : Int32) (by decide)) (eI (5 : Int32) (by decide))) ?_
  rintro pv1 v1 ev1
  change pv1 = v1.toInt at ev1; subst ev1
  refine r_ite (pc_eq rfl (eI (0 : Int32) (by decide))) ?_ ?_
  · exact r_some (qP_i (qI_i (eI (-1 : Int32) (by decide))) (qM_i hm))
  · refine r_bind (A := qI) (rf_X2_isIn rfl (eI (1 : Int32) (by decide)) (eI (5 : Int32) (by decide))) ?_
    rintro pv2 v2 ev2
    change pv2 = v2.toInt at ev2; subst ev2
    refine r_ite (pc_eq rfl (eI (0 : Int32) (by decide))) ?_ ?_
    · exact r_some (qP_i (qI_i (eI (-1 : Int32) (by decide))) (qM_i hm))
    · refine r_bind (A := qI) (r_loop (rb_X2_game_25 rfl rfl) zFuel _ _ (qP_i (qI_i (eI (0 : Int32) (by decide))) (qI_i (eI (0 : Int32) (by decide))))) ?_
      rintro pv4 v4 ev4
      change pv4 = v4.toInt at ev4; subst ev4
      refine r_bind (A := (qM (bM M) m0)) (r_rc (B := (bM M)) (c := 0) (lm_o hL) (rf_X2_layWins hL hm rfl)) ?_
      rintro S12 m12 ⟨em12, hm12⟩
      change S12 = pI (bM M) m12 at em12; subst em12
      refine r_bind (A := qI) (r_rc (B := (bM M)) (c := 0) (lm_o hL) (rf_X2_biteOf hL hm12 rfl)) ?_
      rintro pv13 v13 ev13
      change pv13 = v13.toInt at ev13; subst ev13
      refine r_ite (pc_eq rfl (eI (-1 : Int32) (by decide))) ?_ ?_
      · exact r_some (qP_i (qI_i (eI (0 : Int32) (by decide))) (qM_i hm12))
      · exact r_some (qP_i (qI_i (eI (1 : Int32) (by decide))) (qM_i hm12))
def pb_X2_bite_23 (S : zP) (a1 : Int) : (Int × (Int × Int)) → Option (((Int × zP) ⊕ Int) ⊕ (Int × (Int × Int))) := fun (v5, v6, v7) =>
if 5 ≤ v7 then (some (.inl (.inr v5)))
else ((pdiv a1 v6).bind fun v8 =>
zlt (prm v8 10) fun x1 =>
if x1 ≤ 5 then ((pdiv a1 v6).bind fun v9 =>
p32 ((6 * v5) + (prm v9 10)) fun v10 =>
zlt (pdv v6 10) fun v11 =>
p32 (v7 + 1) fun v12 =>
some (.inr (v10, v11, v12)))
else (some (.inl (.inl ((-1), S)))))
set_option maxHeartbeats 4000000 in
theorem rb_X2_bite_23 {g : zGd} {M : Nat} {m0 : zMm} (hL : pLM g (zR m0) M) {m : zMm} (hm : pOk (bM M) m0 m) {pa1 : Int} {a1 : Int32} (ea1 : pa1 = a1.toInt) : ∀ s t, (qP qI (qP qI qI)) s t → pRf (qS (qS (qP qI (qM (bM M) m0)) qI) (qP qI (qP qI qI))) (pb_X2_bite_23 (pI (bM M) m) pa1 s) (b_X2_bite_23 m a1 t) := by
  subst ea1
  rintro ⟨pv5, pv6, pv7⟩ ⟨v5, v6, v7⟩ ⟨ev5, ev6, ev7⟩
  change pv5 = v5.toInt at ev5; subst ev5
  change pv6 = v6.toInt at ev6; subst ev6
  change pv7 = v7.toInt at ev7; subst ev7
  unfold pb_X2_bite_23 b_X2_bite_23
  try dsimp only
  refine r_ite (pc_le (eI (5 : Int32) (by decide)) rfl) ?_ ?_
  · exact r_some (qS_l (qS_r (qI_i rfl)))
  · refine r_div rfl rfl (fun v8 => ?_)
    refine r_x32 (pe_rm (by decide) rfl (eI (10 : Int32) (by decide))) ?_
    refine r_ite (pc_le rfl (eI (5 : Int32) (by decide))) ?_ ?_
    · refine r_div rfl rfl (fun v9 => ?_)
      refine r_lt32 (px_add (px_mul (px_n (6 : Int32) (by decide)) (px_v _)) (px_e (pe_rm (by decide) rfl (eI (10 : Int32) (by decide))))) (fun v10 => ?_)
      refine r_ltx (pe_dv (by decide) rfl (eI (10 : Int32) (by decide))) (fun v11 => ?_)
      refine r_lt32 (px_add (px_v _) (px_n (1 : Int32) (by decide))) (fun v12 => ?_)
      exact r_some (qS_r (qP_i (qI_i rfl) (qP_i (qI_i rfl) (qI_i rfl))))
    · exact r_some (qS_l (qS_l (qP_i (qI_i (eI (-1 : Int32) (by decide))) (qM_i hm))))
def p_X2_bite (S : zP) (a1 : Int) (a2 : Int) : Option (Int × zP) :=
(p_X2_isIn a1 0 55555).bind fun v1 =>
if v1 = 0 then (some (((-1), S)))
else (zEx (σ := Int) (zLoop (pb_X2_bite_23 S a1) zFuel (0, 10000, 0)) fun v3 =>
(p_X2_isShape v3).bind fun v13 =>
if v13 = 0 then (some (((-1), S)))
else ((p_X2_layWins S v3).bind fun S14 =>
(p_X2_biteOf S14 v3).bind fun v15 =>
if v15 = (-1) then (some (((-1), S14)))
else (if a2 = 0 then (zlt (prm v15 5) fun x1 =>
some ((x1, S14)))
else (zlt (pdv v15 5) fun x2 =>
some ((x2, S14))))))
set_option maxHeartbeats 4000000 in
theorem rf_X2_bite {g : zGd} {M : Nat} {m0 : zMm} (hL : pLM g (zR m0) M) {m : zMm} (hm : pOk (bM M) m0 m) {pa1 : Int} {a1 : Int32} (ea1 : pa1 = a1.toInt) {pa2 : Int} {a2 : Int32} (ea2 : pa2 = a2.toInt) : pRf (qP qI (qM (bM M) m0)) (p_X2_bite (pI (bM M) m) pa1 pa2) (f_X2_bite g m (some ((bM M).1 + 0)) a1 a2) := by
  subst ea1
  subst ea2
  unfold p_X2_bite f_X2_bite
  refine r_bind (A := qI) (rf_X2_isIn rfl (eI (0 : Int32) (by decide)) (eI (55555 : Int32) (by decide))) ?_
  rintro pv1 v1 ev1
  change pv1 = v1.toInt at ev1; subst ev1
  refine r_ite (pc_eq rfl (eI (0 : Int32) (by decide))) ?_ ?_
  · exact r_some (qP_i (qI_i (eI (-1 : Int32) (by decide))) (qM_i hm))
  · refine r_ex (Q := (qP qI (qM (bM M) m0))) (R := qI) ?_ ?_
    · exact (r_loop (rb_X2_bite_23 hL hm rfl) zFuel _ _ (qP_i (qI_i (eI (0 : Int32) (by decide))) (qP_i (qI_i (eI (10000 : Int32) (by decide))) (qI_i (eI (0 : Int32) (by decide))))))
    rintro pv3 v3 ev3
    change pv3 = v3.toInt at ev3; subst ev3
    refine r_bind (A := qI) (rf_X2_isShape rfl) ?_
    rintro pv13 v13 ev13
    change pv13 = v13.toInt at ev13; subst ev13
    refine r_ite (pc_eq rfl (eI (0 : Int32) (by decide))) ?_ ?_
    · exact r_some (qP_i (qI_i (eI (-1 : Int32) (by decide))) (qM_i hm))
    · refine r_bind (A := (qM (bM M) m0)) (r_rc (B := (bM M)) (c := 0) (lm_o hL) (rf_X2_layWins hL hm rfl)) ?_
      rintro S14 m14 ⟨em14, hm14⟩
      change S14 = pI (bM M) m14 at em14; subst em14
      refine r_bind (A := qI) (r_rc (B := (bM M)) (c := 0) (lm_o hL) (rf_X2_biteOf hL hm14 rfl)) ?_
      rintro pv15 v15 ev15
      change pv15 = v15.toInt at ev15; subst ev15
      refine r_ite (pc_eq rfl (eI (-1 : Int32) (by decide))) ?_ ?_
      · exact r_some (qP_i (qI_i (eI (-1 : Int32) (by decide))) (qM_i hm14))
      · refine r_ite (pc_eq rfl (eI (0 : Int32) (by decide))) ?_ ?_
        · refine r_x32 (pe_rm (by decide) rfl (eI (5 : Int32) (by decide))) ?_
          exact r_some (qP_i (qI_i rfl) (qM_i hm14))
        · refine r_x32 (pe_dv (by decide) rfl (eI (5 : Int32) (by decide))) ?_
          exact r_some (qP_i (qI_i rfl) (qM_i hm14))
def p_X2_told (S : zP) (a1 : Int) (a2 : Int) : Option (Int × zP) :=
if a1 = (-1) then ((past S 1 1450 6 0).bind fun S19 =>
some ((0, S19)))
else ((p_X2_isKin S a1).bind fun v1 =>
if v1 = 0 then (some (((-2), S)))
else ((p_X2_isIn a2 0 10).bind fun v2 =>
if v2 = 0 then (some (((-2), S)))
else ((pald S 1 1450 6).bind fun v4 =>
if v4 = 8 then (some (((-2), S)))
else ((pald S 1 1450 6).bind fun v7 =>
p32 (149 + (2 * v7)) fun x1 =>
(past S 1 1450 x1 a1).bind fun S8 =>
(pald S8 1 1450 6).bind fun v11 =>
p32 ((149 + (2 * v11)) + 1) fun x2 =>
(past S8 1 1450 x2 a2).bind fun S12 =>
(pald S12 1 1450 6).bind fun v14 =>
p32 (v14 + 1) fun x3 =>
(past S12 1 1450 6 x3).bind fun S15 =>
(pald S15 1 1450 6).bind fun v17 =>
some ((v17, S15))))))
set_option maxHeartbeats 4000000 in
theorem rf_X2_told {g : zGd} {M : Nat} {m0 : zMm} (hL : pLM g (zR m0) M) {m : zMm} (hm : pOk (bM M) m0 m) {pa1 : Int} {a1 : Int32} (ea1 : pa1 = a1.toInt) {pa2 : Int} {a2 : Int32} (ea2 : pa2 = a2.toInt) : pRf (qP qI (qM (bM M) m0)) (p_X2_told (pI (bM M) m) pa1 pa2) (f_X2_told g m (some ((bM M).1 + 0)) a1 a2) := by
  subst ea1
  subst ea2
  unfold p_X2_told f_X2_told
  refine r_ite (pc_eq rfl (eI (-1 : Int32) (by decide))) ?_ ?_
  · refine r_gr (d := 1) hm (lm_o hL) (lm_f0 hL) ?_
    refine r_ast hm (lm_k1 hL) hL.1 (wM (by omega)) (eI (6 : Int32) (by decide)) (eI (0 : Int32) (by decide)) (fun _ => rfl) (fun m19 hm19 => ?_)
    exact r_some (qP_i (qI_i (eI (0 : Int32) (by decide))) (qM_i hm19))
  · refine r_bind (A := qI) (r_rc (B := (bM M)) (c := 0) (lm_o hL) (rf_X2_isKin hL hm rfl)) ?_
    rintro pv1 v1 ev1
    change pv1 = v1.toInt at ev1; subst ev1
    refine r_ite (pc_eq rfl (eI (0 : Int32) (by decide))) ?_ ?_
    · exact r_some (qP_i (qI_i (eI (-2 : Int32) (by decide))) (qM_i hm))
    · refine r_bind (A := qI) (rf_X2_isIn rfl (eI (0 : Int32) (by decide)) (eI (10 : Int32) (by decide))) ?_
      rintro pv2 v2 ev2
      change pv2 = v2.toInt at ev2; subst ev2
      refine r_ite (pc_eq rfl (eI (0 : Int32) (by decide))) ?_ ?_
      · exact r_some (qP_i (qI_i (eI (-2 : Int32) (by decide))) (qM_i hm))
      · refine r_gr (d := 1) hm (lm_o hL) (lm_f0 hL) ?_
        refine r_ald (lm_k1 hL) (eI (6 : Int32) (by decide)) (fun _ => rfl) (fun v4 => ?_)
        refine r_ite (pc_eq rfl (eI (8 : Int32) (by decide))) ?_ ?_
        · exact r_some (qP_i (qI_i (eI (-2 : Int32) (by decide))) (qM_i hm))
        · refine r_gr (d := 1) hm (lm_o hL) (lm_f0 hL) ?_
          refine r_gr (d := 1) hm (lm_o hL) (lm_f0 hL) ?_
          refine r_ald (lm_k1 hL) (eI (6 : Int32) (by decide)) (fun _ => rfl) (fun v7 => ?_)
          refine r_p32 (px_add (px_n (149 : Int32) (by decide)) (px_mul (px_n (2 : Int32) (by decide)) (px_v _))) ?_
          refine r_ast hm (lm_k1 hL) hL.1 (wM (by omega)) rfl rfl (fun _ => rfl) (fun m8 hm8 => ?_)
          refine r_gr (d := 1) hm8 (lm_o hL) (lm_f0 hL) ?_
          refine r_gr (d := 1) hm8 (lm_o hL) (lm_f0 hL) ?_
          refine r_ald (lm_k1 hL) (eI (6 : Int32) (by decide)) (fun _ => rfl) (fun v11 => ?_)
          refine r_p32 (px_add (px_add (px_n (149 : Int32) (by decide)) (px_mul (px_n (2 : Int32) (by decide)) (px_v _))) (px_n (1 : Int32) (by decide))) ?_
          refine r_ast hm8 (lm_k1 hL) hL.1 (wM (by omega)) rfl rfl (fun _ => rfl) (fun m12 hm12 => ?_)
          refine r_gr (d := 1) hm12 (lm_o hL) (lm_f0 hL) ?_
          refine r_ald (lm_k1 hL) (eI (6 : Int32) (by decide)) (fun _ => rfl) (fun v14 => ?_)
          refine r_p32 (px_add (px_v _) (px_n (1 : Int32) (by decide))) ?_
          refine r_ast hm12 (lm_k1 hL) hL.1 (wM (by omega)) (eI (6 : Int32) (by decide)) rfl (fun _ => rfl) (fun m15 hm15 => ?_)
          refine r_gr (d := 1) hm15 (lm_o hL) (lm_f0 hL) ?_
          refine r_ald (lm_k1 hL) (eI (6 : Int32) (by decide)) (fun _ => rfl) (fun v17 => ?_)
          exact r_some (qP_i (qI_i rfl) (qM_i hm15))
def pb_X2_whose_21 (v6 : Int) : (Int × (Int × zP)) → Option ((Int × zP) ⊕ (Int × (Int × zP))) := fun (v14, v15, S16) =>
(pald S16 1 1450 6).bind fun v18 =>
p32 (149 + (2 * v18)) fun x1 =>
if x1 ≤ v15 then (some (.inl (v14, S16)))
else (if v14 = 0 then (p32 (v15 + 2) fun v19 =>
some (.inr (0, v19, S16)))
else ((pald S16 1 1450 v15).bind fun v21 =>
(p_X2_reachesOf S16 v6 v21).bind fun (v22, S23) =>
p32 (v15 + 1) fun x2 =>
(pald S23 1 1450 x2).bind fun v25 =>
if v22 = v25 then (p32 (v15 + 2) fun v27 =>
some (.inr (1, v27, S23)))
else (p32 (v15 + 2) fun v26 =>
some (.inr (0, v26, S23)))))
set_option maxHeartbeats 4000000 in
theorem rb_X2_whose_21 {g : zGd} {M : Nat} {m0 : zMm} (hL : pLM g (zR m0) M) {pv6 : Int} {v6 : Int32} (ev6 : pv6 = v6.toInt) : ∀ s t, (qP qI (qP qI (qM (bM M) m0))) s t → pRf (qS (qP qI (qM (bM M) m0)) (qP qI (qP qI (qM (bM M) m0)))) (pb_X2_whose_21 pv6 s) (b_X2_whose_21 g (some ((bM M).1 + 0)) v6 t) := by
  subst ev6
  rintro ⟨pv14, pv15, S16⟩ ⟨v14, v15, m16⟩ ⟨ev14, ev15, ⟨em16, hm16⟩⟩
  change pv14 = v14.toInt at ev14; subst ev14
  change pv15 = v15.toInt at ev15; subst ev15
  change S16 = pI (bM M) m16 at em16; subst em16
  unfold pb_X2_whose_21 b_X2_whose_21
  try dsimp only
  refine r_gr (d := 1) hm16 (lm_o hL) (lm_f0 hL) ?_
  refine r_ald (lm_k1 hL) (eI (6 : Int32) (by decide)) (fun _ => rfl) (fun v18 => ?_)
  refine r_p32 (px_add (px_n (149 : Int32) (by decide)) (px_mul (px_n (2 : Int32) (by decide)) (px_v _))) ?_
  refine r_ite (pc_le rfl rfl) ?_ ?_
  · exact r_some (qS_l (qP_i (qI_i rfl) (qM_i hm16)))
  · refine r_ite (pc_eq rfl (eI (0 : Int32) (by decide))) ?_ ?_
    · refine r_lt32 (px_add (px_v _) (px_n (2 : Int32) (by decide))) (fun v19 => ?_)
      exact r_some (qS_r (qP_i (qI_i (eI (0 : Int32) (by decide))) (qP_i (qI_i rfl) (qM_i hm16))))
    · refine r_gr (d := 1) hm16 (lm_o hL) (lm_f0 hL) ?_
      refine r_ald (lm_k1 hL) rfl (fun _ => rfl) (fun v21 => ?_)
      refine r_bind (A := (qP qI (qM (bM M) m0))) (r_rc (B := (bM M)) (c := 0) (lm_o hL) (rf_X2_reachesOf hL hm16 rfl rfl)) ?_
      rintro ⟨pv22, S23⟩ ⟨v22, m23⟩ ⟨ev22, ⟨em23, hm23⟩⟩
      change pv22 = v22.toInt at ev22; subst ev22
      change S23 = pI (bM M) m23 at em23; subst em23
      refine r_gr (d := 1) hm23 (lm_o hL) (lm_f0 hL) ?_
      refine r_p32 (px_add (px_v _) (px_n (1 : Int32) (by decide))) ?_
      refine r_ald (lm_k1 hL) rfl (fun _ => rfl) (fun v25 => ?_)
      refine r_ite (pc_eq rfl rfl) ?_ ?_
      · refine r_lt32 (px_add (px_v _) (px_n (2 : Int32) (by decide))) (fun v27 => ?_)
        exact r_some (qS_r (qP_i (qI_i (eI (1 : Int32) (by decide))) (qP_i (qI_i rfl) (qM_i hm23))))
      · refine r_lt32 (px_add (px_v _) (px_n (2 : Int32) (by decide))) (fun v26 => ?_)
        exact r_some (qS_r (qP_i (qI_i (eI (0 : Int32) (by decide))) (qP_i (qI_i rfl) (qM_i hm23))))
def pb_X2_whose_4  : (Int × (Int × zP)) → Option ((Int × zP) ⊕ (Int × (Int × zP))) := fun (v5, v6, S7) =>
(pald S7 1 1450 1).bind fun v9 =>
if v9 ≤ v6 then (some (.inl (v5, S7)))
else ((zLoop (pb_X2_whose_21 v6) zFuel (1, 149, S7)).bind fun (v11, S12) =>
if v11 = 0 then (zlt (por v5 0) fun v28 =>
p32 (v6 + 1) fun v29 =>
some (.inr (v28, v29, S12)))
else (zlt (pshl 1 v6) fun x1 =>
zlt (por v5 x1) fun v30 =>
p32 (v6 + 1) fun v31 =>
some (.inr (v30, v31, S12))))
set_option maxHeartbeats 4000000 in
theorem rb_X2_whose_4 {g : zGd} {M : Nat} {m0 : zMm} (hL : pLM g (zR m0) M)  : ∀ s t, (qP qI (qP qI (qM (bM M) m0))) s t → pRf (qS (qP qI (qM (bM M) m0)) (qP qI (qP qI (qM (bM M) m0)))) (pb_X2_whose_4 s) (b_X2_whose_4 g (some ((bM M).1 + 0)) t) := by
  rintro ⟨pv5, pv6, S7⟩ ⟨v5, v6, m7⟩ ⟨ev5, ev6, ⟨em7, hm7⟩⟩
  change pv5 = v5.toInt at ev5; subst ev5
  change pv6 = v6.toInt at ev6; subst ev6
  change S7 = pI (bM M) m7 at em7; subst em7
  unfold pb_X2_whose_4 b_X2_whose_4
  try dsimp only
  refine r_gr (d := 1) hm7 (lm_o hL) (lm_f0 hL) ?_
  refine r_ald (lm_k1 hL) (eI (1 : Int32) (by decide)) (fun _ => rfl) (fun v9 => ?_)
  refine r_ite (pc_le rfl rfl) ?_ ?_
  · exact r_some (qS_l (qP_i (qI_i rfl) (qM_i hm7)))
  · refine r_bind (A := (qP qI (qM (bM M) m0))) (r_loop (rb_X2_whose_21 hL rfl) zFuel _ _ (qP_i (qI_i (eI (1 : Int32) (by decide))) (qP_i (qI_i (eI (149 : Int32) (by decide))) (qM_i hm7)))) ?_
    rintro ⟨pv11, S12⟩ ⟨v11, m12⟩ ⟨ev11, ⟨em12, hm12⟩⟩
    change pv11 = v11.toInt at ev11; subst ev11
    change S12 = pI (bM M) m12 at em12; subst em12
    refine r_ite (pc_eq rfl (eI (0 : Int32) (by decide))) ?_ ?_
    · refine r_ltx (pe_or rfl (eI (0 : Int32) (by decide))) (fun v28 => ?_)
      refine r_lt32 (px_add (px_v _) (px_n (1 : Int32) (by decide))) (fun v29 => ?_)
      exact r_some (qS_r (qP_i (qI_i rfl) (qP_i (qI_i rfl) (qM_i hm12))))
    · refine r_x32 (pe_shl (eI (1 : Int32) (by decide)) rfl) ?_
      refine r_ltx (pe_or rfl rfl) (fun v30 => ?_)
      refine r_lt32 (px_add (px_v _) (px_n (1 : Int32) (by decide))) (fun v31 => ?_)
      exact r_some (qS_r (qP_i (qI_i rfl) (qP_i (qI_i rfl) (qM_i hm12))))
def p_X2_whose (S : zP) : Option (Int × zP) :=
(zLoop pb_X2_whose_4 zFuel (0, 0, S)).bind fun (v2, S3) =>
some ((v2, S3))
set_option maxHeartbeats 4000000 in
theorem rf_X2_whose {g : zGd} {M : Nat} {m0 : zMm} (hL : pLM g (zR m0) M) {m : zMm} (hm : pOk (bM M) m0 m) : pRf (qP qI (qM (bM M) m0)) (p_X2_whose (pI (bM M) m)) (f_X2_whose g m (some ((bM M).1 + 0))) := by
  unfold p_X2_whose f_X2_whose
  refine r_bind (A := (qP qI (qM (bM M) m0))) (r_loop (rb_X2_whose_4 hL) zFuel _ _ (qP_i (qI_i (eI (0 : Int32) (by decide))) (qP_i (qI_i (eI (0 : Int32) (by decide))) (qM_i hm)))) ?_
  rintro ⟨pv2, S3⟩ ⟨v2, m3⟩ ⟨ev2, ⟨em3, hm3⟩⟩
  change pv2 = v2.toInt at ev2; subst ev2
  change S3 = pI (bM M) m3 at em3; subst em3
  exact r_some (qP_i (qI_i rfl) (qM_i hm3))
def p_X2_image (S : zP) : Option (Int × zP) :=
(p_X2_copy S 1 1450 2 1450).bind fun S3 =>
(pald S3 1 1450 7).bind fun v5 =>
some ((v5, S3))
set_option maxHeartbeats 4000000 in
theorem rf_X2_image {g : zGd} {M : Nat} {m0 : zMm} (hL : pLM g (zR m0) M) {m : zMm} (hm : pOk (bM M) m0 m) : pRf (qP qI (qM (bM M) m0)) (p_X2_image (pI (bM M) m)) (f_X2_image g m (some ((bM M).1 + 0))) := by
  unfold p_X2_image f_X2_image
  refine r_gr (d := 1) hm (lm_o hL) (lm_f0 hL) ?_
  refine r_gr (d := 2) hm (lm_o hL) (lm_f1 hL) ?_
  refine r_bind (A := (qM (bM M) m0)) (rf_X2_copy hL hm (lm_k1 hL) (fun _ => wM (by omega)) (fun _ => rfl) (lm_k2 hL) (fun _ => wM (by omega)) (fun _ => rfl)) ?_
  rintro S3 m3 ⟨em3, hm3⟩
  change S3 = pI (bM M) m3 at em3; subst em3
  refine r_gr (d := 1) hm3 (lm_o hL) (lm_f0 hL) ?_
  refine r_ald (lm_k1 hL) (eI (7 : Int32) (by decide)) (fun _ => rfl) (fun v5 => ?_)
  exact r_some (qP_i (qI_i rfl) (qM_i hm3))
def p_X2_back (S : zP) : Option (Int × zP) :=
(p_X2_copy S 2 1450 1 1450).bind fun S3 =>
(pald S3 1 1450 7).bind fun v5 =>
some ((v5, S3))
set_option maxHeartbeats 4000000 in
theorem rf_X2_back {g : zGd} {M : Nat} {m0 : zMm} (hL : pLM g (zR m0) M) {m : zMm} (hm : pOk (bM M) m0 m) : pRf (qP qI (qM (bM M) m0)) (p_X2_back (pI (bM M) m)) (f_X2_back g m (some ((bM M).1 + 0))) := by
  unfold p_X2_back f_X2_back
  refine r_gr (d := 2) hm (lm_o hL) (lm_f1 hL) ?_
  refine r_gr (d := 1) hm (lm_o hL) (lm_f0 hL) ?_
  refine r_bind (A := (qM (bM M) m0)) (rf_X2_copy hL hm (lm_k2 hL) (fun _ => wM (by omega)) (fun _ => rfl) (lm_k1 hL) (fun _ => wM (by omega)) (fun _ => rfl)) ?_
  rintro S3 m3 ⟨em3, hm3⟩
  change S3 = pI (bM M) m3 at em3; subst em3
  refine r_gr (d := 1) hm3 (lm_o hL) (lm_f0 hL) ?_
  refine r_ald (lm_k1 hL) (eI (7 : Int32) (by decide)) (fun _ => rfl) (fun v5 => ?_)
  exact r_some (qP_i (qI_i rfl) (qM_i hm3))
def p_X2_about (S : zP) (a1 : Int) : Option Int :=
(p_X2_isIn a1 0 6).bind fun v1 =>
if v1 = 0 then (if a1 = 7 then (zlt (S 0 4) fun v2 =>
some (v2))
else (some ((-2))))
else ((pald S 1 1450 a1).bind fun v4 =>
some (v4))
set_option maxHeartbeats 4000000 in
theorem rf_X2_about {g : zGd} {M : Nat} {m0 : zMm} (hL : pLM g (zR m0) M) {m : zMm} (hm : pOk (bM M) m0 m) {pa1 : Int} {a1 : Int32} (ea1 : pa1 = a1.toInt) : pRf qI (p_X2_about (pI (bM M) m) pa1) (f_X2_about g m (some ((bM M).1 + 0)) a1) := by
  subst ea1
  unfold p_X2_about f_X2_about
  refine r_bind (A := qI) (rf_X2_isIn rfl (eI (0 : Int32) (by decide)) (eI (6 : Int32) (by decide))) ?_
  rintro pv1 v1 ev1
  change pv1 = v1.toInt at ev1; subst ev1
  refine r_ite (pc_eq rfl (eI (0 : Int32) (by decide))) ?_ ?_
  · refine r_ite (pc_eq rfl (eI (7 : Int32) (by decide))) ?_ ?_
    · refine r_gi (B := (bM M)) (c := 0) (i := 4) (lm_o hL) rfl rfl (fun v2 => ?_)
      exact r_some (qI_i rfl)
    · exact r_some (qI_i (eI (-2 : Int32) (by decide)))
  · refine r_gr (d := 1) hm (lm_o hL) (lm_f0 hL) ?_
    refine r_ald (lm_k1 hL) rfl (fun _ => rfl) (fun v4 => ?_)
    exact r_some (qI_i rfl)
