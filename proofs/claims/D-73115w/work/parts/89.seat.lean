/-! PURE, seatings: the rows, by masks and by numbers -/
set_option maxRecDepth 100000
def sLv (n : Nat) : Nat → Int → List (List Int)
  | 0, _ => [[]]
  | d + 1, m => (List.range n).flatMap fun (k : Nat) => if pHas m (k : Int) = 0 then [] else (sLv n d (pand m (pxor (pshl 1 (k : Int)) (-1)))).map fun r => (k : Int) :: r
def sWf (n : Nat) : Nat → Int → Bool
  | 0, m => decide (m = 0)
  | d + 1, m => decide (m ≠ 0) && (List.range n).all fun (k : Nat) => decide (pHas m (k : Int) = 0) || sWf n d (pand m (pxor (pshl 1 (k : Int)) (-1)))
abbrev sSt : Type := Int × Int × Int × List Int
def sStep (sp : List Int → Int) (q : sSt) (r : List Int) : sSt := (if sp r < q.1 then sp r else q.1, if q.2.1 < sp r then sp r else q.2.1, if sp r < q.1 then 1 else if sp r = q.1 then q.2.2.1 + 1 else q.2.2.1, if sp r < q.1 then r else q.2.2.2)
def sG (r : List Int) (s : Int) : Int := r.getD s.toNat 0
def sOk (n : Nat) (r : List Int) : Prop := r.length = n ∧ ∀ s, 0 ≤ s → s < (n : Int) → 0 ≤ sG r s ∧ sG r s < (n : Int)
def sMask (n : Nat) : Int := pand (pshl 1 (n : Int) - 1) (-2)
def lrOne (n l u s : Int) : Option (Int × Int × Int) :=
  p32 ((n - 1) - s) fun x1 => (p_X2_factorial x1).bind fun v14 => (pdiv l v14).bind fun v15 => p32 ((n - 1) - s) fun x2 => (p_X2_factorial x2).bind fun v18 => (pmod l v18).bind fun v19 => (zLoop (pb_X2_layRow_63 u) zFuel (v15, 0)).bind fun v21 => some (v19, por u (pshl 1 v21), v21)
def lrGo (n : Int) : Nat → Int → Int → Int → Option (List Int)
  | 0, _, _, _ => some []
  | j + 1, l, u, s => match lrOne n l u s with
    | none => none
    | some (l', u', k) => match lrGo n j l' u' (s + 1) with
      | none => none
      | some r => some (k :: r)
def sRows (n : Nat) : List (List Int) := sLv n (n - 1) (sMask n)
def sChk (n : Nat) : Bool := sWf n (n - 1) (sMask n) && decide (p_X2_factorial ((n : Int) - 1) = some ((sRows n).length : Int)) && decide ((sRows n).length ≤ 120) && decide (1 ≤ (sRows n).length) && ((List.range (sRows n).length).all fun (i : Nat) => decide (lrGo (n : Int) (n - 1) (i : Int) 1 1 = (sRows n)[i]?)) && ((sRows n).all fun (r : List Int) => decide (r.length = n - 1) && r.all fun (x : Int) => decide (0 ≤ x ∧ x < (n : Int)))
theorem sChk_1 : sChk 1 = true := by decide +kernel
theorem sChk_2 : sChk 2 = true := by decide +kernel
theorem sChk_3 : sChk 3 = true := by decide +kernel
theorem sChk_4 : sChk 4 = true := by decide +kernel
theorem sChk_5 : sChk 5 = true := by decide +kernel
theorem sChk_6 : sChk 6 = true := by decide +kernel
