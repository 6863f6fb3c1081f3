/-! PURE, the game: shapes -/
set_option maxRecDepth 100000
def gSh : List Int := (List.range 6).flatMap fun (a : Nat) => (List.range (a + 1)).flatMap fun (b : Nat) => (List.range (b + 1)).flatMap fun (c : Nat) => (List.range (c + 1)).flatMap fun (d : Nat) => (List.range (d + 1)).map fun (e : Nat) => ((10000 * a + 1000 * b + 100 * c + 10 * d + e : Nat) : Int)
def gO (x : Option Int) : Int := match x with | some v => v | none => -7
def gE (d : Int) : Int := gO (p_X0_sixesOf d)
def gR (e r : Int) : Int := gO (p_X2_rowOf e r)
def gC (e r c : Int) : Int := gO (p_X2_bitten e r c)
def gB (d r c : Int) : Int := gO (p_X0_bitten d r c)
def gQ (e : Int) : Nat := (gR e 0 + gR e 1 + gR e 2 + gR e 3 + gR e 4).toNat
def g6 : List Int := gSh.map gE
def gOkC (d e r c : Int) : Bool := decide (c < gR e r → p_X0_bitten d r c = some (gB d r c) ∧ p_X2_bitten e r c = some (gC e r c) ∧ gE (gB d r c) = gC e r c ∧ gSh.contains (gB d r c) = true ∧ gQ (gC e r c) < gQ e ∧ gC e r c < e ∧ (r + c = 0 ↔ gC e r c = 0))
def gOkR (d e r : Int) : Bool := decide (p_X0_wideOf d r = some (gR e r)) && decide (p_X2_rowOf e r = some (gR e r)) && decide (0 ≤ gR e r ∧ gR e r ≤ 5) && gOkC d e r 0 && gOkC d e r 1 && gOkC d e r 2 && gOkC d e r 3 && gOkC d e r 4
def gOkD (d : Int) : Bool := decide (p_X0_sixesOf d = some (gE d)) && decide (0 ≤ gE d ∧ gE d < 7776 ∧ gQ (gE d) ≤ 25) && decide (p_X2_isShape (gE d) = some 1) && gOkR d (gE d) 0 && gOkR d (gE d) 1 && gOkR d (gE d) 2 && gOkR d (gE d) 3 && gOkR d (gE d) 4
def gCh (i : Nat) : List Int := (gSh.drop (21 * i)).take 21
theorem gOk_0 : (gCh 0).all gOkD = true := by decide +kernel
theorem gOk_1 : (gCh 1).all gOkD = true := by decide +kernel
theorem gOk_2 : (gCh 2).all gOkD = true := by decide +kernel
theorem gOk_3 : (gCh 3).all gOkD = true := by decide +kernel
theorem gOk_4 : (gCh 4).all gOkD = true := by decide +kernel
theorem gOk_5 : (gCh 5).all gOkD = true := by decide +kernel
theorem gOk_6 : (gCh 6).all gOkD = true := by decide +kernel
theorem gOk_7 : (gCh 7).all gOkD = true := by decide +kernel
theorem gOk_8 : (gCh 8).all gOkD = true := by decide +kernel
theorem gOk_9 : (gCh 9).all gOkD = true := by decide +kernel
theorem gOk_10 : (gCh 10).all gOkD = true := by decide +kernel
theorem gOk_11 : (gCh 11).all gOkD = true := by decide +kernel
theorem gSh_ch : gSh = (List.range 12).flatMap gCh := by decide +kernel
theorem gOk_all : gSh.all gOkD = true := by
  rw [gSh_ch]
  refine List.all_eq_true.mpr (fun d hd => ?_)
  obtain ⟨i, hi, hd⟩ := List.mem_flatMap.mp hd
  have hi := List.mem_range.mp hi
  have h : (gCh i).all gOkD = true := by
    match i, hi with
    | 0, _ => exact gOk_0
    | 1, _ => exact gOk_1
    | 2, _ => exact gOk_2
    | 3, _ => exact gOk_3
    | 4, _ => exact gOk_4
    | 5, _ => exact gOk_5
    | 6, _ => exact gOk_6
    | 7, _ => exact gOk_7
    | 8, _ => exact gOk_8
    | 9, _ => exact gOk_9
    | 10, _ => exact gOk_10
    | 11, _ => exact gOk_11
    | n + 12, h => exact absurd h (by omega)
  exact List.all_eq_true.mp h d hd
def gFc (i : Nat) : Bool := decide ((((List.range' (648 * i) 648).filter fun (k : Nat) => decide (p_X2_isShape (k : Int) ≠ some 0)).map fun (k : Nat) => (k : Int)) = g6.filter fun (e : Int) => decide (648 * (i : Int) ≤ e ∧ e < 648 * (i : Int) + 648))
theorem gF_0 : gFc 0 = true := by decide +kernel
theorem gF_1 : gFc 1 = true := by decide +kernel
theorem gF_2 : gFc 2 = true := by decide +kernel
theorem gF_3 : gFc 3 = true := by decide +kernel
theorem gF_4 : gFc 4 = true := by decide +kernel
theorem gF_5 : gFc 5 = true := by decide +kernel
theorem gF_6 : gFc 6 = true := by decide +kernel
theorem gF_7 : gFc 7 = true := by decide +kernel
theorem gF_8 : gFc 8 = true := by decide +kernel
theorem gF_9 : gFc 9 = true := by decide +kernel
theorem gF_10 : gFc 10 = true := by decide +kernel
theorem gF_11 : gFc 11 = true := by decide +kernel
theorem gF_all {i : Nat} (hi : i < 12) : gFc i = true := by
  match i, hi with
  | 0, _ => exact gF_0
  | 1, _ => exact gF_1
  | 2, _ => exact gF_2
  | 3, _ => exact gF_3
  | 4, _ => exact gF_4
  | 5, _ => exact gF_5
  | 6, _ => exact gF_6
  | 7, _ => exact gF_7
  | 8, _ => exact gF_8
  | 9, _ => exact gF_9
  | 10, _ => exact gF_10
  | 11, _ => exact gF_11
  | n + 12, h => exact absurd h (by omega)
