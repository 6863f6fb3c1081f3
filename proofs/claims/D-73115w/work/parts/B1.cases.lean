/-! JOIN: the cases of the law (printed by gen/cases.py) -/
set_option maxRecDepth 100000
section
variable {D : iD} {b : Nat} {g : zGd} {m : zMm}
theorem c_kin (h : iV D b g m) (v w : Int32) : ∃ u m1 m2, f_X0_kin g m (some b) v w = some (u, m1) ∧ f_X2_kin g m1 (some (b + 151)) v w = some (u, m2) ∧ iV D b g m2 :=
  i_mm h (rf_X0_kin (M := b) (iV_lc h) pOk.rf rfl rfl) (P2 := fun S => p_X2_kin S v.toInt w.toInt) (F2 := fun m1 => f_X2_kin g m1 (some (b + 151)) v w) (fun m1 e => rf_X2_kin (M := b + 151) (by rw [e]; exact iV_lm h) pOk.rf rfl rfl) (q_kin (iV_rel h) _ _)
theorem c_feed (h : iV D b g m) (v w x y z : Int32) : ∃ u m1 m2, f_X0_feed g m (some b) v w x y z = some (u, m1) ∧ f_X2_feed g m1 (some (b + 151)) v w x y z = some (u, m2) ∧ iV D b g m2 :=
  i_mm h (rf_X0_feed (M := b) (iV_lc h) pOk.rf rfl rfl rfl rfl rfl) (P2 := fun S => p_X2_feed S v.toInt w.toInt x.toInt y.toInt z.toInt) (F2 := fun m1 => f_X2_feed g m1 (some (b + 151)) v w x y z) (fun m1 e => rf_X2_feed (M := b + 151) (by rw [e]; exact iV_lm h) pOk.rf rfl rfl rfl rfl rfl) (q_feed (iV_rel h) _ _ _ _ _)
theorem c_end (h : iV D b g m) (v : Int32) : ∃ u m1 m2, f_X0_end g m (some b) v = some (u, m1) ∧ f_X2_end g m1 (some (b + 151)) v = some (u, m2) ∧ iV D b g m2 :=
  i_mm h (rf_X0_end (M := b) (iV_lc h) pOk.rf rfl) (P2 := fun S => p_X2_end S v.toInt) (F2 := fun m1 => f_X2_end g m1 (some (b + 151)) v) (fun m1 e => rf_X2_end (M := b + 151) (by rw [e]; exact iV_lm h) pOk.rf rfl) (q_end (iV_rel h) _)
theorem c_fault (h : iV D b g m) (v : Int32) : ∃ u, f_X0_fault g m (some b) v = some u ∧ f_X2_fault g m (some (b + 151)) v = some u :=
  i_rr (rf_X0_fault (M := b) (iV_lc h) pOk.rf rfl) (rf_X2_fault (M := b + 151) (iV_lm h) pOk.rf rfl) (q_fault (iV_rel h) _)
theorem c_by (h : iV D b g m) (v : Int32) : ∃ u m1 m2, f_X0_by g m (some b) v = some (u, m1) ∧ f_X2_by g m1 (some (b + 151)) v = some (u, m2) ∧ iV D b g m2 :=
  i_mm h (rf_X0_by (M := b) (iV_lc h) pOk.rf rfl) (P2 := fun S => p_X2_by S v.toInt) (F2 := fun m1 => f_X2_by g m1 (some (b + 151)) v) (fun m1 e => rf_X2_by (M := b + 151) (by rw [e]; exact iV_lm h) pOk.rf rfl) (q_by (iV_rel h) _)
theorem c_reach (h : iV D b g m) (v : Int32) : ∃ u m1 m2, f_X0_reach g m (some b) v = some (u, m1) ∧ f_X2_reach g m1 (some (b + 151)) v = some (u, m2) ∧ iV D b g m2 :=
  i_mm h (rf_X0_reach (M := b) (iV_lc h) pOk.rf rfl) (P2 := fun S => p_X2_reach S v.toInt) (F2 := fun m1 => f_X2_reach g m1 (some (b + 151)) v) (fun m1 e => rf_X2_reach (M := b + 151) (by rw [e]; exact iV_lm h) pOk.rf rfl) (q_reach (iV_rel h) _)
theorem c_down (h : iV D b g m) (v w : Int32) : ∃ u m1 m2, f_X0_down g m (some b) v w = some (u, m1) ∧ f_X2_down g m1 (some (b + 151)) v w = some (u, m2) ∧ iV D b g m2 :=
  i_mm h (rf_X0_down (M := b) (iV_lc h) pOk.rf rfl rfl) (P2 := fun S => p_X2_down S v.toInt w.toInt) (F2 := fun m1 => f_X2_down g m1 (some (b + 151)) v w) (fun m1 e => rf_X2_down (M := b + 151) (by rw [e]; exact iV_lm h) pOk.rf rfl rfl) (q_down (iV_rel h) _ _)
theorem c_strap (h : iV D b g m) (v : Int32) : ∃ u m1 m2, f_X0_strap g m (some b) v = some (u, m1) ∧ f_X2_strap g m1 (some (b + 151)) v = some (u, m2) ∧ iV D b g m2 :=
  i_mm h (rf_X0_strap (M := b) (iV_lc h) pOk.rf rfl) (P2 := fun S => p_X2_strap S v.toInt) (F2 := fun m1 => f_X2_strap g m1 (some (b + 151)) v) (fun m1 e => rf_X2_strap (M := b + 151) (by rw [e]; exact iV_lm h) pOk.rf rfl) (q_strap (iV_rel h) _)
theorem c_swap (h : iV D b g m) (v w : Int32) : ∃ u m1 m2, f_X0_swap g m (some b) v w = some (u, m1) ∧ f_X2_swap g m1 (some (b + 151)) v w = some (u, m2) ∧ iV D b g m2 :=
  i_mm h (rf_X0_swap (M := b) (iV_lc h) pOk.rf rfl rfl) (P2 := fun S => p_X2_swap S v.toInt w.toInt) (F2 := fun m1 => f_X2_swap g m1 (some (b + 151)) v w) (fun m1 e => rf_X2_swap (M := b + 151) (by rw [e]; exact iV_lm h) pOk.rf rfl rfl) (q_swap (iV_rel h) _ _)
theorem c_dinner (h : iV D b g m) (v : Int32) : ∃ u m1 m2, f_X0_dinner g m (some b) v = some (u, m1) ∧ f_X2_dinner g m1 (some (b + 151)) v = some (u, m2) ∧ iV D b g m2 :=
  i_mm h (rf_X0_dinner (M := b) (iV_lc h) (iV_ok h) pOk.rf rfl) (P2 := fun S => p_X2_dinner S v.toInt) (F2 := fun m1 => f_X2_dinner g m1 (some (b + 151)) v) (fun m1 e => rf_X2_dinner (M := b + 151) (by rw [e]; exact iV_lm h) pOk.rf rfl) (q_dinner (iV_rel h) _)
theorem c_years (h : iV D b g m) (v w : Int32) : ∃ u m1 m2, f_X0_years g m (some b) v w = some (u, m1) ∧ f_X2_years g m1 (some (b + 151)) v w = some (u, m2) ∧ iV D b g m2 :=
  i_mm h (rf_X0_years (M := b) (iV_lc h) (iV_ok h) pOk.rf rfl rfl) (P2 := fun S => p_X2_years S v.toInt w.toInt) (F2 := fun m1 => f_X2_years g m1 (some (b + 151)) v w) (fun m1 e => rf_X2_years (M := b + 151) (by rw [e]; exact iV_lm h) pOk.rf rfl rfl) (q_years (iV_rel h) _ _)
theorem c_undo (h : iV D b g m) : ∃ u m1 m2, f_X0_undo g m (some b) = some (u, m1) ∧ f_X2_undo g m1 (some (b + 151)) = some (u, m2) ∧ iV D b g m2 :=
  i_mm h (rf_X0_undo (M := b) (iV_lc h) pOk.rf) (P2 := fun S => p_X2_undo S) (F2 := fun m1 => f_X2_undo g m1 (some (b + 151))) (fun m1 e => rf_X2_undo (M := b + 151) (by rw [e]; exact iV_lm h) pOk.rf) (q_undo (iV_rel h))
theorem c_of (h : iV D b g m) (v w : Int32) : ∃ u m1 m2, f_X0_of g m (some b) v w = some (u, m1) ∧ f_X2_of g m1 (some (b + 151)) v w = some (u, m2) ∧ iV D b g m2 :=
  i_mm h (rf_X0_of (M := b) (iV_lc h) (iV_ok h) pOk.rf rfl rfl) (P2 := fun S => p_X2_of S v.toInt w.toInt) (F2 := fun m1 => f_X2_of g m1 (some (b + 151)) v w) (fun m1 e => rf_X2_of (M := b + 151) (by rw [e]; exact iV_lm h) pOk.rf rfl rfl) (q_of (iV_rel h) _ _)
theorem c_at (h : iV D b g m) (v : Int32) : ∃ u, f_X0_at g m (some b) v = some u ∧ f_X2_at g m (some (b + 151)) v = some u :=
  i_rr (rf_X0_at (M := b) (iV_lc h) pOk.rf rfl) (rf_X2_at (M := b + 151) (iV_lm h) pOk.rf rfl) (q_at (iV_rel h) _)
theorem c_is (h : iV D b g m) (v : Int32) : ∃ u, f_X0_is g m (some b) v = some u ∧ f_X2_is g m (some (b + 151)) v = some u :=
  i_rr (rf_X0_is (M := b) (iV_lc h) pOk.rf rfl) (rf_X2_is (M := b + 151) (iV_lm h) pOk.rf rfl) (q_is (iV_rel h) _)
theorem c_book (h : iV D b g m) (v w : Int32) : ∃ u, f_X0_book g m (some b) v w = some u ∧ f_X2_book g m (some (b + 151)) v w = some u :=
  i_rr (rf_X0_book (M := b) (iV_lc h) pOk.rf rfl rfl) (rf_X2_book (M := b + 151) (iV_lm h) pOk.rf rfl rfl) (q_book (iV_rel h) _ _)
theorem c_foretold (h : iV D b g m) (v w : Int32) : ∃ u m1 m2, f_X0_foretold g m (some b) v w = some (u, m1) ∧ f_X2_foretold g m1 (some (b + 151)) v w = some (u, m2) ∧ iV D b g m2 :=
  i_mm h (rf_X0_foretold (M := b) (iV_lc h) (iV_ok h) pOk.rf rfl rfl) (P2 := fun S => p_X2_foretold S v.toInt w.toInt) (F2 := fun m1 => f_X2_foretold g m1 (some (b + 151)) v w) (fun m1 e => rf_X2_foretold (M := b + 151) (by rw [e]; exact iV_lm h) pOk.rf rfl rfl) (q_foretold (iV_rel h) _ _)
theorem c_spite (h : iV D b g m) (v w x : Int32) : ∃ u m1 m2, f_X0_spite g m (some b) v w x = some (u, m1) ∧ f_X2_spite g m1 (some (b + 151)) v w x = some (u, m2) ∧ iV D b g m2 :=
  i_mm h (rf_X0_spite (M := b) (iV_lc h) pOk.rf rfl rfl rfl) (P2 := fun S => p_X2_spite S v.toInt w.toInt x.toInt) (F2 := fun m1 => f_X2_spite g m1 (some (b + 151)) v w x) (fun m1 e => rf_X2_spite (M := b + 151) (by rw [e]; exact iV_lm h) pOk.rf rfl rfl rfl) (q_spite (iV_rel h) _ _ _)
theorem c_round (h : iV D b g m) (v : Int32) : ∃ u m1 m2, f_X0_round g m (some b) v = some (u, m1) ∧ f_X2_round g m1 (some (b + 151)) v = some (u, m2) ∧ iV D b g m2 :=
  i_mm h (rf_X0_round (M := b) (iV_lc h) pOk.rf rfl) (P2 := fun S => p_X2_round S v.toInt) (F2 := fun m1 => f_X2_round g m1 (some (b + 151)) v) (fun m1 e => rf_X2_round (M := b + 151) (by rw [e]; exact iV_lm h) pOk.rf rfl) (q_round (iV_rel h) _)
theorem c_seating (h : iV D b g m) (v : Int32) : ∃ u m1 m2, f_X0_seating g m (some b) v = some (u, m1) ∧ f_X2_seating g m1 (some (b + 151)) v = some (u, m2) ∧ iV D b g m2 :=
  i_mm h (rf_X0_seating (M := b) (iV_lc h) pOk.rf rfl) (P2 := fun S => p_X2_seating S v.toInt) (F2 := fun m1 => f_X2_seating g m1 (some (b + 151)) v) (fun m1 e => rf_X2_seating (M := b + 151) (by rw [e]; exact iV_lm h) pOk.rf rfl) (q_seating (iV_rel h) _)
theorem c_seatings (h : iV D b g m) : ∃ u m1 m2, f_X0_seatings g m (some b) = some (u, m1) ∧ f_X2_seatings g m1 (some (b + 151)) = some (u, m2) ∧ iV D b g m2 :=
  i_mm h (rf_X0_seatings (M := b) (iV_lc h) pOk.rf) (P2 := fun S => p_X2_seatings S) (F2 := fun m1 => f_X2_seatings g m1 (some (b + 151))) (fun m1 e => rf_X2_seatings (M := b + 151) (by rw [e]; exact iV_lm h) pOk.rf) (q_seatings (iV_rel h))
theorem c_spiteNow (h : iV D b g m) : ∃ u m2, f_X0_spiteNow g m (some b) = some u ∧ f_X2_spiteNow g m (some (b + 151)) = some (u, m2) ∧ iV D b g m2 :=
  i_rm h (rf_X0_spiteNow (M := b) (iV_lc h) pOk.rf) (rf_X2_spiteNow (M := b + 151) (iV_lm h) pOk.rf) (q_spiteNow (iV_rel h))
theorem c_mend (h : iV D b g m) (v : Int32) : ∃ u m1 m2, f_X0_mend g m (some b) v = some (u, m1) ∧ f_X2_mend g m1 (some (b + 151)) v = some (u, m2) ∧ iV D b g m2 :=
  i_mm h (rf_X0_mend (M := b) (iV_lc h) pOk.rf rfl) (P2 := fun S => p_X2_mend S v.toInt) (F2 := fun m1 => f_X2_mend g m1 (some (b + 151)) v) (fun m1 e => rf_X2_mend (M := b + 151) (by rw [e]; exact iV_lm h) pOk.rf rfl) (q_mend (iV_rel h) _)
theorem c_hedge (h : iV D b g m) (v w : Int32) : ∃ u m1 m2, f_X0_hedge g m (some b) v w = some (u, m1) ∧ f_X2_hedge g m1 (some (b + 151)) v w = some (u, m2) ∧ iV D b g m2 :=
  i_mm h (rf_X0_hedge (M := b) (iV_lc h) pOk.rf rfl rfl) (P2 := fun S => p_X2_hedge S v.toInt w.toInt) (F2 := fun m1 => f_X2_hedge g m1 (some (b + 151)) v w) (fun m1 e => rf_X2_hedge (M := b + 151) (by rw [e]; exact iV_lm h) pOk.rf rfl rfl) (q_hedge (iV_rel h) _ _)
theorem c_flight (h : iV D b g m) (v w x : Int32) : ∃ u m1 m2, f_X0_flight g m (some b) v w x = some (u, m1) ∧ f_X2_flight g m1 (some (b + 151)) v w x = some (u, m2) ∧ iV D b g m2 :=
  i_mm h (rf_X0_flight (M := b) (iV_lc h) pOk.rf rfl rfl rfl) (P2 := fun S => p_X2_flight S v.toInt w.toInt x.toInt) (F2 := fun m1 => f_X2_flight g m1 (some (b + 151)) v w x) (fun m1 e => rf_X2_flight (M := b + 151) (by rw [e]; exact iV_lm h) pOk.rf rfl rfl rfl) (q_flight (iV_rel h) _ _ _)
theorem c_comes (h : iV D b g m) (v w : Int32) : ∃ u m1 m2, f_X0_comes g m (some b) v w = some (u, m1) ∧ f_X2_comes g m1 (some (b + 151)) v w = some (u, m2) ∧ iV D b g m2 :=
  i_mm h (rf_X0_comes (M := b) (iV_lc h) pOk.rf rfl rfl) (P2 := fun S => p_X2_comes S v.toInt w.toInt) (F2 := fun m1 => f_X2_comes g m1 (some (b + 151)) v w) (fun m1 e => rf_X2_comes (M := b + 151) (by rw [e]; exact iV_lm h) pOk.rf rfl rfl) (q_comes (iV_rel h) _ _)
theorem c_guess (h : iV D b g m) (v w x : Int32) : ∃ u m1 m2, f_X0_guess g m (some b) v w x = some (u, m1) ∧ f_X2_guess g m1 (some (b + 151)) v w x = some (u, m2) ∧ iV D b g m2 :=
  i_mm h (rf_X0_guess (M := b) (iV_lc h) pOk.rf rfl rfl rfl) (P2 := fun S => p_X2_guess S v.toInt w.toInt x.toInt) (F2 := fun m1 => f_X2_guess g m1 (some (b + 151)) v w x) (fun m1 e => rf_X2_guess (M := b + 151) (by rw [e]; exact iV_lm h) pOk.rf rfl rfl rfl) (q_guess (iV_rel h) _ _ _)
theorem c_answer (h : iV D b g m) (v w : Int32) : ∃ u, f_X0_answer g m (some b) v w = some u ∧ f_X2_answer g m (some (b + 151)) v w = some u :=
  i_rr (rf_X0_answer (M := b) (iV_lc h) pOk.rf rfl rfl) (rf_X2_answer (M := b + 151) (iV_lm h) pOk.rf rfl rfl) (q_answer _ _)
theorem c_fits (h : iV D b g m) : ∃ u m1 m2, f_X0_fits g m (some b) = some (u, m1) ∧ f_X2_fits g m1 (some (b + 151)) = some (u, m2) ∧ iV D b g m2 :=
  i_mm h (rf_X0_fits (M := b) (iV_lc h) pOk.rf) (P2 := fun S => p_X2_fits S) (F2 := fun m1 => f_X2_fits g m1 (some (b + 151))) (fun m1 e => rf_X2_fits (M := b + 151) (by rw [e]; exact iV_lm h) pOk.rf) (q_fits (iV_rel h))
theorem c_fit (h : iV D b g m) (v : Int32) : ∃ u m1 m2, f_X0_fit g m (some b) v = some (u, m1) ∧ f_X2_fit g m1 (some (b + 151)) v = some (u, m2) ∧ iV D b g m2 :=
  i_mm h (rf_X0_fit (M := b) (iV_lc h) pOk.rf rfl) (P2 := fun S => p_X2_fit S v.toInt) (F2 := fun m1 => f_X2_fit g m1 (some (b + 151)) v) (fun m1 e => rf_X2_fit (M := b + 151) (by rw [e]; exact iV_lm h) pOk.rf rfl) (q_fit (iV_rel h) _)
theorem c_ask (h : iV D b g m) : ∃ u m1 m2, f_X0_ask g m (some b) = some (u, m1) ∧ f_X2_ask g m1 (some (b + 151)) = some (u, m2) ∧ iV D b g m2 :=
  i_mm h (rf_X0_ask (M := b) (iV_lc h) pOk.rf) (P2 := fun S => p_X2_ask S) (F2 := fun m1 => f_X2_ask g m1 (some (b + 151))) (fun m1 e => rf_X2_ask (M := b + 151) (by rw [e]; exact iV_lm h) pOk.rf) (q_ask (iV_rel h))
theorem c_gain (h : iV D b g m) (v w x y : Int32) : ∃ u m1 m2, f_X0_gain g m (some b) v w x y = some (u, m1) ∧ f_X2_gain g m1 (some (b + 151)) v w x y = some (u, m2) ∧ iV D b g m2 :=
  i_mm h (rf_X0_gain (M := b) (iV_lc h) pOk.rf rfl rfl rfl rfl) (P2 := fun S => p_X2_gain S v.toInt w.toInt x.toInt y.toInt) (F2 := fun m1 => f_X2_gain g m1 (some (b + 151)) v w x y) (fun m1 e => rf_X2_gain (M := b + 151) (by rw [e]; exact iV_lm h) pOk.rf rfl rfl rfl rfl) (q_gain (iV_rel h) _ _ _ _)
theorem c_rests (h : iV D b g m) : ∃ u, f_X0_rests g m (some b) = some u ∧ f_X2_rests g m (some (b + 151)) = some u :=
  i_rr (rf_X0_rests (M := b) (iV_lc h) pOk.rf) (rf_X2_rests (M := b + 151) (iV_lm h) pOk.rf) (q_rests (iV_rel h))
theorem c_mixed (h : iV D b g m) (v w : Int32) : ∃ u, f_X0_mixed g m (some b) v w = some u ∧ f_X2_mixed g m (some (b + 151)) v w = some u :=
  i_rr (rf_X0_mixed (M := b) (iV_lc h) pOk.rf rfl rfl) (rf_X2_mixed (M := b + 151) (iV_lm h) pOk.rf rfl rfl) (q_mixed (iV_rel h) _ _)
theorem c_saying (h : iV D b g m) (v w : Int32) : ∃ u m1 m2, f_X0_saying g m (some b) v w = some (u, m1) ∧ f_X2_saying g m1 (some (b + 151)) v w = some (u, m2) ∧ iV D b g m2 :=
  i_mm h (rf_X0_saying (M := b) (iV_lc h) pOk.rf rfl rfl) (P2 := fun S => p_X2_saying S v.toInt w.toInt) (F2 := fun m1 => f_X2_saying g m1 (some (b + 151)) v w) (fun m1 e => rf_X2_saying (M := b + 151) (by rw [e]; exact iV_lm h) pOk.rf rfl rfl) (q_saying (iV_rel h) _ _)
theorem c_least (h : iV D b g m) (v w : Int32) : ∃ u, f_X0_least g m (some b) v w = some u ∧ f_X2_least g m (some (b + 151)) v w = some u :=
  i_rr (rf_X0_least (M := b) (iV_lc h) pOk.rf rfl rfl) (rf_X2_least (M := b + 151) (iV_lm h) pOk.rf rfl rfl) (q_least (iV_rel h) _ _)
theorem c_near (h : iV D b g m) (v w x y : Int32) : ∃ u, f_X0_near g m (some b) v w x y = some u ∧ f_X2_near g m (some (b + 151)) v w x y = some u :=
  i_jj (rf_X0_near (M := b) (iV_lc h) pOk.rf rfl rfl rfl rfl) (rf_X2_near (M := b + 151) (iV_lm h) pOk.rf rfl rfl rfl rfl) (q_near _ _ _ _)
theorem c_game (h : iV D b g m) (v w : Int32) : ∃ u m1 m2, f_X0_game g m (some b) v w = some (u, m1) ∧ f_X2_game g m1 (some (b + 151)) v w = some (u, m2) ∧ iV D b g m2 :=
  i_mg h (rf_X0_game (M := b) (iV_lc h) pOk.rf rfl rfl) (P2 := fun S => p_X2_game S v.toInt w.toInt) (F2 := fun m1 => f_X2_game g m1 (some (b + 151)) v w) (fun m1 e => rf_X2_game (M := b + 151) (by rw [e]; exact iV_lm h) pOk.rf rfl rfl) (q_game (iV_rel h) h.2.2.2.2.2.1 _ _)
theorem c_bite (h : iV D b g m) (v w : Int32) : ∃ u m1 m2, f_X0_bite g m (some b) v w = some (u, m1) ∧ f_X2_bite g m1 (some (b + 151)) v w = some (u, m2) ∧ iV D b g m2 :=
  i_mg h (rf_X0_bite (M := b) (iV_lc h) pOk.rf rfl rfl) (P2 := fun S => p_X2_bite S v.toInt w.toInt) (F2 := fun m1 => f_X2_bite g m1 (some (b + 151)) v w) (fun m1 e => rf_X2_bite (M := b + 151) (by rw [e]; exact iV_lm h) pOk.rf rfl rfl) (q_bite (iV_rel h) h.2.2.2.2.2.1 _ _)
theorem c_told (h : iV D b g m) (v w : Int32) : ∃ u m1 m2, f_X0_told g m (some b) v w = some (u, m1) ∧ f_X2_told g m1 (some (b + 151)) v w = some (u, m2) ∧ iV D b g m2 :=
  i_mm h (rf_X0_told (M := b) (iV_lc h) pOk.rf rfl rfl) (P2 := fun S => p_X2_told S v.toInt w.toInt) (F2 := fun m1 => f_X2_told g m1 (some (b + 151)) v w) (fun m1 e => rf_X2_told (M := b + 151) (by rw [e]; exact iV_lm h) pOk.rf rfl rfl) (q_told (iV_rel h) _ _)
theorem c_whose (h : iV D b g m) : ∃ u m1 m2, f_X0_whose g m (some b) = some (u, m1) ∧ f_X2_whose g m1 (some (b + 151)) = some (u, m2) ∧ iV D b g m2 :=
  i_mm h (rf_X0_whose (M := b) (iV_lc h) (iV_ok h) pOk.rf) (P2 := fun S => p_X2_whose S) (F2 := fun m1 => f_X2_whose g m1 (some (b + 151))) (fun m1 e => rf_X2_whose (M := b + 151) (by rw [e]; exact iV_lm h) pOk.rf) (q_whose (iV_rel h))
theorem c_fullest (h : iV D b g m) : ∃ u, f_X0_fullest g m (some b) = some u ∧ f_X2_fullest g m (some (b + 151)) = some u :=
  i_rr (rf_X0_fullest (M := b) (iV_lc h) pOk.rf) (rf_X2_fullest (M := b + 151) (iV_lm h) pOk.rf) (q_fullest (iV_rel h))
theorem c_calm (h : iV D b g m) : ∃ u, f_X0_calm g m (some b) = some u ∧ f_X2_calm g m (some (b + 151)) = some u :=
  i_rr (rf_X0_calm (M := b) (iV_lc h) pOk.rf) (rf_X2_calm (M := b + 151) (iV_lm h) pOk.rf) (q_calm (iV_rel h))
theorem c_ledger (h : iV D b g m) (v : Int32) : ∃ u, f_X0_ledger g m (some b) v = some u ∧ f_X2_ledger g m (some (b + 151)) v = some u :=
  i_rr (rf_X0_ledger (M := b) (iV_lc h) pOk.rf rfl) (rf_X2_ledger (M := b + 151) (iV_lm h) pOk.rf rfl) (q_ledger (iV_rel h) _)
theorem c_about (h : iV D b g m) (v : Int32) : ∃ u, f_X0_about g m (some b) v = some u ∧ f_X2_about g m (some (b + 151)) v = some u :=
  i_rr (rf_X0_about (M := b) (iV_lc h) pOk.rf rfl) (rf_X2_about (M := b + 151) (iV_lm h) pOk.rf rfl) (q_about (iV_rel h) _)
end
