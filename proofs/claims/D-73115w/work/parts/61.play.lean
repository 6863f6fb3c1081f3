/-! P-LEVEL: where the cells lie (printed by gen/prun.py) -/
set_option maxRecDepth 100000
def jM (c : Nat) (i : Int) : Bool := (c == 7) || ((c == 0) && (i == 11))
/-- blocks: the model's (its texts aren't written), the model's while a text is read, the component's (its image, how many texts, its table of bites aren't written), with its table of bites -/
abbrev bM (M : Nat) : pBl := (M, jM, fun c _ => c < 16 ∧ c ≠ 3)
abbrev bT (M : Nat) : pBl := (M, jM, fun c _ => c < 16)
abbrev bC (M : Nat) : pBl := (M, fun _ _ => false, fun c i => c < 150 ∧ (c < 72 ∨ 143 ≤ c) ∧ (c = 2 → i ≠ 1))
abbrev bD (M : Nat) : pBl := (M, fun _ _ => false, fun c i => c < 151 ∧ (c < 72 ∨ 143 ≤ c) ∧ (c = 2 → i ≠ 1))
theorem wM {M c : Nat} {i : Int} (h : c < 16 ∧ c ≠ 3) : (bM M).2.2 c i := h
theorem wT {M c : Nat} {i : Int} (h : c < 16) : (bT M).2.2 c i := h
theorem wC {M c : Nat} {i : Int} (h : c < 150 ∧ (c < 72 ∨ 143 ≤ c) ∧ (c = 2 → i ≠ 1)) : (bC M).2.2 c i := h
theorem wD {M c : Nat} {i : Int} (h : c < 151 ∧ (c < 72 ∨ 143 ≤ c) ∧ (c = 2 → i ≠ 1)) : (bD M).2.2 c i := h
def pLM (g : zGd) (R : Nat → Nat → Option Nat) (M : Nat) : Prop :=
  (zB g ≤ M) ∧
  ((zK g (M + 0)).1 = 2 + 1) ∧
  (zK g (M + 1) = (101, 1450)) ∧
  (zK g (M + 2) = (101, 1450)) ∧
  (zK g (M + 3) = (101, 2724)) ∧
  (zK g (M + 4) = (101, 300)) ∧
  (zK g (M + 5) = (101, 160)) ∧
  (zK g (M + 6) = (101, 7)) ∧
  (zK g (M + 7) = (104, 330)) ∧
  (zK g (M + 8) = (103, 330)) ∧
  (zK g (M + 9) = (101, 23)) ∧
  (zK g (M + 10) = (101, 6)) ∧
  (zK g (M + 11) = (101, 6)) ∧
  (zK g (M + 12) = (103, 144)) ∧
  (zK g (M + 13) = (101, 125)) ∧
  (zK g (M + 14) = (101, 31)) ∧
  (zK g (M + 15) = (103, 7776)) ∧
  (R (M + 0) 0 = some (M + 1)) ∧
  (R (M + 0) 1 = some (M + 2)) ∧
  (R (M + 0) 2 = some (M + 3)) ∧
  (R (M + 0) 3 = some (M + 4)) ∧
  (R (M + 0) 15 = some (M + 5)) ∧
  (R (M + 0) 20 = some (M + 6)) ∧
  (R (M + 0) 21 = some (M + 7)) ∧
  (R (M + 0) 22 = some (M + 8)) ∧
  (R (M + 0) 25 = some (M + 9)) ∧
  (R (M + 0) 26 = some (M + 10)) ∧
  (R (M + 0) 27 = some (M + 11)) ∧
  (R (M + 0) 31 = some (M + 12)) ∧
  (R (M + 0) 36 = some (M + 13)) ∧
  (R (M + 0) 37 = some (M + 14)) ∧
  (R (M + 0) 38 = some (M + 15))
theorem lm_b {g : zGd} {R : Nat → Nat → Option Nat} {M : Nat} (h : pLM g R M) : zB g ≤ M := h.1
theorem lm_o {g : zGd} {R : Nat → Nat → Option Nat} {M : Nat} (h : pLM g R M) : (zK g (M + 0)).1 = 2 + 1 := h.2.1
theorem lm_k1 {g : zGd} {R : Nat → Nat → Option Nat} {M : Nat} (h : pLM g R M) : zK g (M + 1) = (101, 1450) := h.2.2.1
theorem lm_k2 {g : zGd} {R : Nat → Nat → Option Nat} {M : Nat} (h : pLM g R M) : zK g (M + 2) = (101, 1450) := h.2.2.2.1
theorem lm_k3 {g : zGd} {R : Nat → Nat → Option Nat} {M : Nat} (h : pLM g R M) : zK g (M + 3) = (101, 2724) := h.2.2.2.2.1
theorem lm_k4 {g : zGd} {R : Nat → Nat → Option Nat} {M : Nat} (h : pLM g R M) : zK g (M + 4) = (101, 300) := h.2.2.2.2.2.1
theorem lm_k5 {g : zGd} {R : Nat → Nat → Option Nat} {M : Nat} (h : pLM g R M) : zK g (M + 5) = (101, 160) := h.2.2.2.2.2.2.1
theorem lm_k6 {g : zGd} {R : Nat → Nat → Option Nat} {M : Nat} (h : pLM g R M) : zK g (M + 6) = (101, 7) := h.2.2.2.2.2.2.2.1
theorem lm_k7 {g : zGd} {R : Nat → Nat → Option Nat} {M : Nat} (h : pLM g R M) : zK g (M + 7) = (104, 330) := h.2.2.2.2.2.2.2.2.1
theorem lm_k8 {g : zGd} {R : Nat → Nat → Option Nat} {M : Nat} (h : pLM g R M) : zK g (M + 8) = (103, 330) := h.2.2.2.2.2.2.2.2.2.1
theorem lm_k9 {g : zGd} {R : Nat → Nat → Option Nat} {M : Nat} (h : pLM g R M) : zK g (M + 9) = (101, 23) := h.2.2.2.2.2.2.2.2.2.2.1
theorem lm_k10 {g : zGd} {R : Nat → Nat → Option Nat} {M : Nat} (h : pLM g R M) : zK g (M + 10) = (101, 6) := h.2.2.2.2.2.2.2.2.2.2.2.1
theorem lm_k11 {g : zGd} {R : Nat → Nat → Option Nat} {M : Nat} (h : pLM g R M) : zK g (M + 11) = (101, 6) := h.2.2.2.2.2.2.2.2.2.2.2.2.1
theorem lm_k12 {g : zGd} {R : Nat → Nat → Option Nat} {M : Nat} (h : pLM g R M) : zK g (M + 12) = (103, 144) := h.2.2.2.2.2.2.2.2.2.2.2.2.2.1
theorem lm_k13 {g : zGd} {R : Nat → Nat → Option Nat} {M : Nat} (h : pLM g R M) : zK g (M + 13) = (101, 125) := h.2.2.2.2.2.2.2.2.2.2.2.2.2.2.1
theorem lm_k14 {g : zGd} {R : Nat → Nat → Option Nat} {M : Nat} (h : pLM g R M) : zK g (M + 14) = (101, 31) := h.2.2.2.2.2.2.2.2.2.2.2.2.2.2.2.1
theorem lm_k15 {g : zGd} {R : Nat → Nat → Option Nat} {M : Nat} (h : pLM g R M) : zK g (M + 15) = (103, 7776) := h.2.2.2.2.2.2.2.2.2.2.2.2.2.2.2.2.1
theorem lm_f0 {g : zGd} {R : Nat → Nat → Option Nat} {M : Nat} (h : pLM g R M) : R (M + 0) 0 = some (M + 1) := h.2.2.2.2.2.2.2.2.2.2.2.2.2.2.2.2.2.1
theorem lm_f1 {g : zGd} {R : Nat → Nat → Option Nat} {M : Nat} (h : pLM g R M) : R (M + 0) 1 = some (M + 2) := h.2.2.2.2.2.2.2.2.2.2.2.2.2.2.2.2.2.2.1
theorem lm_f2 {g : zGd} {R : Nat → Nat → Option Nat} {M : Nat} (h : pLM g R M) : R (M + 0) 2 = some (M + 3) := h.2.2.2.2.2.2.2.2.2.2.2.2.2.2.2.2.2.2.2.1
theorem lm_f3 {g : zGd} {R : Nat → Nat → Option Nat} {M : Nat} (h : pLM g R M) : R (M + 0) 3 = some (M + 4) := h.2.2.2.2.2.2.2.2.2.2.2.2.2.2.2.2.2.2.2.2.1
theorem lm_f15 {g : zGd} {R : Nat → Nat → Option Nat} {M : Nat} (h : pLM g R M) : R (M + 0) 15 = some (M + 5) := h.2.2.2.2.2.2.2.2.2.2.2.2.2.2.2.2.2.2.2.2.2.1
theorem lm_f20 {g : zGd} {R : Nat → Nat → Option Nat} {M : Nat} (h : pLM g R M) : R (M + 0) 20 = some (M + 6) := h.2.2.2.2.2.2.2.2.2.2.2.2.2.2.2.2.2.2.2.2.2.2.1
theorem lm_f21 {g : zGd} {R : Nat → Nat → Option Nat} {M : Nat} (h : pLM g R M) : R (M + 0) 21 = some (M + 7) := h.2.2.2.2.2.2.2.2.2.2.2.2.2.2.2.2.2.2.2.2.2.2.2.1
theorem lm_f22 {g : zGd} {R : Nat → Nat → Option Nat} {M : Nat} (h : pLM g R M) : R (M + 0) 22 = some (M + 8) := h.2.2.2.2.2.2.2.2.2.2.2.2.2.2.2.2.2.2.2.2.2.2.2.2.1
theorem lm_f25 {g : zGd} {R : Nat → Nat → Option Nat} {M : Nat} (h : pLM g R M) : R (M + 0) 25 = some (M + 9) := h.2.2.2.2.2.2.2.2.2.2.2.2.2.2.2.2.2.2.2.2.2.2.2.2.2.1
theorem lm_f26 {g : zGd} {R : Nat → Nat → Option Nat} {M : Nat} (h : pLM g R M) : R (M + 0) 26 = some (M + 10) := h.2.2.2.2.2.2.2.2.2.2.2.2.2.2.2.2.2.2.2.2.2.2.2.2.2.2.1
theorem lm_f27 {g : zGd} {R : Nat → Nat → Option Nat} {M : Nat} (h : pLM g R M) : R (M + 0) 27 = some (M + 11) := h.2.2.2.2.2.2.2.2.2.2.2.2.2.2.2.2.2.2.2.2.2.2.2.2.2.2.2.1
theorem lm_f31 {g : zGd} {R : Nat → Nat → Option Nat} {M : Nat} (h : pLM g R M) : R (M + 0) 31 = some (M + 12) := h.2.2.2.2.2.2.2.2.2.2.2.2.2.2.2.2.2.2.2.2.2.2.2.2.2.2.2.2.1
theorem lm_f36 {g : zGd} {R : Nat → Nat → Option Nat} {M : Nat} (h : pLM g R M) : R (M + 0) 36 = some (M + 13) := h.2.2.2.2.2.2.2.2.2.2.2.2.2.2.2.2.2.2.2.2.2.2.2.2.2.2.2.2.2.1
theorem lm_f37 {g : zGd} {R : Nat → Nat → Option Nat} {M : Nat} (h : pLM g R M) : R (M + 0) 37 = some (M + 14) := h.2.2.2.2.2.2.2.2.2.2.2.2.2.2.2.2.2.2.2.2.2.2.2.2.2.2.2.2.2.2.1
theorem lm_f38 {g : zGd} {R : Nat → Nat → Option Nat} {M : Nat} (h : pLM g R M) : R (M + 0) 38 = some (M + 15) := h.2.2.2.2.2.2.2.2.2.2.2.2.2.2.2.2.2.2.2.2.2.2.2.2.2.2.2.2.2.2.2
def pLS (g : zGd) (R : Nat → Nat → Option Nat) (M : Nat) (s : Nat) : Prop :=
  ((zK g (M + s)).1 = 1 + 1) ∧
  (zK g (M + (s + 1)) = (101, 7)) ∧
  (R (M + s) 0 = some (M + (s + 1))) ∧
  (zK g (M + (s + 2)) = (101, 116)) ∧
  (R (M + s) 1 = some (M + (s + 2))) ∧
  (zK g (M + (s + 3)) = (101, 6)) ∧
  (R (M + s) 2 = some (M + (s + 3))) ∧
  (zK g (M + (s + 4)) = (101, 36)) ∧
  (R (M + s) 3 = some (M + (s + 4))) ∧
  (zK g (M + (s + 5)) = (101, 4)) ∧
  (R (M + s) 4 = some (M + (s + 5))) ∧
  (zK g (M + (s + 6)) = (101, 4)) ∧
  (R (M + s) 5 = some (M + (s + 6))) ∧
  (zK g (M + (s + 7)) = (106, 6)) ∧
  (R (M + s) 6 = some (M + (s + 7))) ∧
  (∀ q, q < 6 → R (M + (s + 7)) q = some (M + (s + 7 + 1 + q))) ∧
  (∀ q, q < 6 → zK g (M + (s + 7 + 1 + q)) = (101, 6)) ∧
  (zK g (M + (s + 14)) = (106, 6)) ∧
  (R (M + s) 7 = some (M + (s + 14))) ∧
  (∀ q, q < 6 → R (M + (s + 14)) q = some (M + (s + 14 + 1 + q))) ∧
  (∀ q, q < 6 → zK g (M + (s + 14 + 1 + q)) = (101, 2)) ∧
  (zK g (M + (s + 21)) = (106, 8)) ∧
  (R (M + s) 8 = some (M + (s + 21))) ∧
  (∀ q, q < 8 → R (M + (s + 21)) q = some (M + (s + 21 + 1 + q))) ∧
  (∀ q, q < 8 → zK g (M + (s + 21 + 1 + q)) = (101, 2)) ∧
  (zK g (M + (s + 30)) = (106, 8)) ∧
  (R (M + s) 9 = some (M + (s + 30))) ∧
  (∀ q, q < 8 → R (M + (s + 30)) q = some (M + (s + 30 + 1 + q))) ∧
  (∀ q, q < 8 → zK g (M + (s + 30 + 1 + q)) = (101, 2)) ∧
  (zK g (M + (s + 39)) = (106, 30)) ∧
  (R (M + s) 10 = some (M + (s + 39))) ∧
  (∀ q, q < 30 → R (M + (s + 39)) q = some (M + (s + 39 + 1 + q))) ∧
  (∀ q, q < 30 → zK g (M + (s + 39 + 1 + q)) = (101, 116)) ∧
  (zK g (M + (s + 70)) = (108, 4)) ∧
  (R (M + s) 11 = some (M + (s + 70)))
theorem ls_o {g : zGd} {R : Nat → Nat → Option Nat} {M s : Nat} (h : pLS g R M s) : (zK g (M + s)).1 = 1 + 1 := h.1
theorem ls_k1 {g : zGd} {R : Nat → Nat → Option Nat} {M s : Nat} (h : pLS g R M s) : zK g (M + (s + 1)) = (101, 7) := h.2.1
theorem ls_f0 {g : zGd} {R : Nat → Nat → Option Nat} {M s : Nat} (h : pLS g R M s) : R (M + s) 0 = some (M + (s + 1)) := h.2.2.1
theorem ls_k2 {g : zGd} {R : Nat → Nat → Option Nat} {M s : Nat} (h : pLS g R M s) : zK g (M + (s + 2)) = (101, 116) := h.2.2.2.1
theorem ls_f1 {g : zGd} {R : Nat → Nat → Option Nat} {M s : Nat} (h : pLS g R M s) : R (M + s) 1 = some (M + (s + 2)) := h.2.2.2.2.1
theorem ls_k3 {g : zGd} {R : Nat → Nat → Option Nat} {M s : Nat} (h : pLS g R M s) : zK g (M + (s + 3)) = (101, 6) := h.2.2.2.2.2.1
theorem ls_f2 {g : zGd} {R : Nat → Nat → Option Nat} {M s : Nat} (h : pLS g R M s) : R (M + s) 2 = some (M + (s + 3)) := h.2.2.2.2.2.2.1
theorem ls_k4 {g : zGd} {R : Nat → Nat → Option Nat} {M s : Nat} (h : pLS g R M s) : zK g (M + (s + 4)) = (101, 36) := h.2.2.2.2.2.2.2.1
theorem ls_f3 {g : zGd} {R : Nat → Nat → Option Nat} {M s : Nat} (h : pLS g R M s) : R (M + s) 3 = some (M + (s + 4)) := h.2.2.2.2.2.2.2.2.1
theorem ls_k5 {g : zGd} {R : Nat → Nat → Option Nat} {M s : Nat} (h : pLS g R M s) : zK g (M + (s + 5)) = (101, 4) := h.2.2.2.2.2.2.2.2.2.1
theorem ls_f4 {g : zGd} {R : Nat → Nat → Option Nat} {M s : Nat} (h : pLS g R M s) : R (M + s) 4 = some (M + (s + 5)) := h.2.2.2.2.2.2.2.2.2.2.1
theorem ls_k6 {g : zGd} {R : Nat → Nat → Option Nat} {M s : Nat} (h : pLS g R M s) : zK g (M + (s + 6)) = (101, 4) := h.2.2.2.2.2.2.2.2.2.2.2.1
theorem ls_f5 {g : zGd} {R : Nat → Nat → Option Nat} {M s : Nat} (h : pLS g R M s) : R (M + s) 5 = some (M + (s + 6)) := h.2.2.2.2.2.2.2.2.2.2.2.2.1
theorem ls_k7 {g : zGd} {R : Nat → Nat → Option Nat} {M s : Nat} (h : pLS g R M s) : zK g (M + (s + 7)) = (106, 6) := h.2.2.2.2.2.2.2.2.2.2.2.2.2.1
theorem ls_f6 {g : zGd} {R : Nat → Nat → Option Nat} {M s : Nat} (h : pLS g R M s) : R (M + s) 6 = some (M + (s + 7)) := h.2.2.2.2.2.2.2.2.2.2.2.2.2.2.1
theorem ls_r7 {g : zGd} {R : Nat → Nat → Option Nat} {M s : Nat} (h : pLS g R M s) : ∀ q, q < 6 → R (M + (s + 7)) q = some (M + (s + 7 + 1 + q)) := h.2.2.2.2.2.2.2.2.2.2.2.2.2.2.2.1
theorem ls_e7 {g : zGd} {R : Nat → Nat → Option Nat} {M s : Nat} (h : pLS g R M s) : ∀ q, q < 6 → zK g (M + (s + 7 + 1 + q)) = (101, 6) := h.2.2.2.2.2.2.2.2.2.2.2.2.2.2.2.2.1
theorem ls_k14 {g : zGd} {R : Nat → Nat → Option Nat} {M s : Nat} (h : pLS g R M s) : zK g (M + (s + 14)) = (106, 6) := h.2.2.2.2.2.2.2.2.2.2.2.2.2.2.2.2.2.1
theorem ls_f7 {g : zGd} {R : Nat → Nat → Option Nat} {M s : Nat} (h : pLS g R M s) : R (M + s) 7 = some (M + (s + 14)) := h.2.2.2.2.2.2.2.2.2.2.2.2.2.2.2.2.2.2.1
theorem ls_r14 {g : zGd} {R : Nat → Nat → Option Nat} {M s : Nat} (h : pLS g R M s) : ∀ q, q < 6 → R (M + (s + 14)) q = some (M + (s + 14 + 1 + q)) := h.2.2.2.2.2.2.2.2.2.2.2.2.2.2.2.2.2.2.2.1
theorem ls_e14 {g : zGd} {R : Nat → Nat → Option Nat} {M s : Nat} (h : pLS g R M s) : ∀ q, q < 6 → zK g (M + (s + 14 + 1 + q)) = (101, 2) := h.2.2.2.2.2.2.2.2.2.2.2.2.2.2.2.2.2.2.2.2.1
theorem ls_k21 {g : zGd} {R : Nat → Nat → Option Nat} {M s : Nat} (h : pLS g R M s) : zK g (M + (s + 21)) = (106, 8) := h.2.2.2.2.2.2.2.2.2.2.2.2.2.2.2.2.2.2.2.2.2.1
theorem ls_f8 {g : zGd} {R : Nat → Nat → Option Nat} {M s : Nat} (h : pLS g R M s) : R (M + s) 8 = some (M + (s + 21)) := h.2.2.2.2.2.2.2.2.2.2.2.2.2.2.2.2.2.2.2.2.2.2.1
theorem ls_r21 {g : zGd} {R : Nat → Nat → Option Nat} {M s : Nat} (h : pLS g R M s) : ∀ q, q < 8 → R (M + (s + 21)) q = some (M + (s + 21 + 1 + q)) := h.2.2.2.2.2.2.2.2.2.2.2.2.2.2.2.2.2.2.2.2.2.2.2.1
theorem ls_e21 {g : zGd} {R : Nat → Nat → Option Nat} {M s : Nat} (h : pLS g R M s) : ∀ q, q < 8 → zK g (M + (s + 21 + 1 + q)) = (101, 2) := h.2.2.2.2.2.2.2.2.2.2.2.2.2.2.2.2.2.2.2.2.2.2.2.2.1
theorem ls_k30 {g : zGd} {R : Nat → Nat → Option Nat} {M s : Nat} (h : pLS g R M s) : zK g (M + (s + 30)) = (106, 8) := h.2.2.2.2.2.2.2.2.2.2.2.2.2.2.2.2.2.2.2.2.2.2.2.2.2.1
theorem ls_f9 {g : zGd} {R : Nat → Nat → Option Nat} {M s : Nat} (h : pLS g R M s) : R (M + s) 9 = some (M + (s + 30)) := h.2.2.2.2.2.2.2.2.2.2.2.2.2.2.2.2.2.2.2.2.2.2.2.2.2.2.1
theorem ls_r30 {g : zGd} {R : Nat → Nat → Option Nat} {M s : Nat} (h : pLS g R M s) : ∀ q, q < 8 → R (M + (s + 30)) q = some (M + (s + 30 + 1 + q)) := h.2.2.2.2.2.2.2.2.2.2.2.2.2.2.2.2.2.2.2.2.2.2.2.2.2.2.2.1
theorem ls_e30 {g : zGd} {R : Nat → Nat → Option Nat} {M s : Nat} (h : pLS g R M s) : ∀ q, q < 8 → zK g (M + (s + 30 + 1 + q)) = (101, 2) := h.2.2.2.2.2.2.2.2.2.2.2.2.2.2.2.2.2.2.2.2.2.2.2.2.2.2.2.2.1
theorem ls_k39 {g : zGd} {R : Nat → Nat → Option Nat} {M s : Nat} (h : pLS g R M s) : zK g (M + (s + 39)) = (106, 30) := h.2.2.2.2.2.2.2.2.2.2.2.2.2.2.2.2.2.2.2.2.2.2.2.2.2.2.2.2.2.1
theorem ls_f10 {g : zGd} {R : Nat → Nat → Option Nat} {M s : Nat} (h : pLS g R M s) : R (M + s) 10 = some (M + (s + 39)) := h.2.2.2.2.2.2.2.2.2.2.2.2.2.2.2.2.2.2.2.2.2.2.2.2.2.2.2.2.2.2.1
theorem ls_r39 {g : zGd} {R : Nat → Nat → Option Nat} {M s : Nat} (h : pLS g R M s) : ∀ q, q < 30 → R (M + (s + 39)) q = some (M + (s + 39 + 1 + q)) := h.2.2.2.2.2.2.2.2.2.2.2.2.2.2.2.2.2.2.2.2.2.2.2.2.2.2.2.2.2.2.2.1
theorem ls_e39 {g : zGd} {R : Nat → Nat → Option Nat} {M s : Nat} (h : pLS g R M s) : ∀ q, q < 30 → zK g (M + (s + 39 + 1 + q)) = (101, 116) := h.2.2.2.2.2.2.2.2.2.2.2.2.2.2.2.2.2.2.2.2.2.2.2.2.2.2.2.2.2.2.2.2.1
theorem ls_k70 {g : zGd} {R : Nat → Nat → Option Nat} {M s : Nat} (h : pLS g R M s) : zK g (M + (s + 70)) = (108, 4) := h.2.2.2.2.2.2.2.2.2.2.2.2.2.2.2.2.2.2.2.2.2.2.2.2.2.2.2.2.2.2.2.2.2.1
theorem ls_f11 {g : zGd} {R : Nat → Nat → Option Nat} {M s : Nat} (h : pLS g R M s) : R (M + s) 11 = some (M + (s + 70)) := h.2.2.2.2.2.2.2.2.2.2.2.2.2.2.2.2.2.2.2.2.2.2.2.2.2.2.2.2.2.2.2.2.2.2
def pLC (g : zGd) (R : Nat → Nat → Option Nat) (M : Nat) : Prop :=
  (zB g ≤ M) ∧
  ((zK g (M + 0)).1 = 0 + 1) ∧
  (R (M + 0) 0 = some (M + 1)) ∧
  (R (M + 0) 1 = some (M + 72)) ∧
  (pLS g R M 1) ∧
  (pLS g R M 72) ∧
  (zK g (M + 143) = (102, 300)) ∧
  (R (M + 0) 2 = some (M + 143)) ∧
  (zK g (M + 144) = (101, 19)) ∧
  (R (M + 0) 6 = some (M + 144)) ∧
  (zK g (M + 145) = (101, 116)) ∧
  (R (M + 0) 7 = some (M + 145)) ∧
  (zK g (M + 146) = (101, 6)) ∧
  (R (M + 0) 8 = some (M + 146)) ∧
  (zK g (M + 147) = (101, 6)) ∧
  (R (M + 0) 9 = some (M + 147)) ∧
  (zK g (M + 148) = (101, 125)) ∧
  (R (M + 0) 17 = some (M + 148)) ∧
  (zK g (M + 149) = (101, 31)) ∧
  (R (M + 0) 19 = some (M + 149)) ∧
  (zK g (M + 150) = (102, 7776)) ∧
  (R (M + 0) 20 = some (M + 150))
theorem lc_b {g : zGd} {R : Nat → Nat → Option Nat} {M : Nat} (h : pLC g R M) : zB g ≤ M := h.1
theorem lc_o {g : zGd} {R : Nat → Nat → Option Nat} {M : Nat} (h : pLC g R M) : (zK g (M + 0)).1 = 0 + 1 := h.2.1
theorem lc_f0 {g : zGd} {R : Nat → Nat → Option Nat} {M : Nat} (h : pLC g R M) : R (M + 0) 0 = some (M + 1) := h.2.2.1
theorem lc_f1 {g : zGd} {R : Nat → Nat → Option Nat} {M : Nat} (h : pLC g R M) : R (M + 0) 1 = some (M + 72) := h.2.2.2.1
theorem lc_s1 {g : zGd} {R : Nat → Nat → Option Nat} {M : Nat} (h : pLC g R M) : pLS g R M 1 := h.2.2.2.2.1
theorem lc_s72 {g : zGd} {R : Nat → Nat → Option Nat} {M : Nat} (h : pLC g R M) : pLS g R M 72 := h.2.2.2.2.2.1
theorem lc_k143 {g : zGd} {R : Nat → Nat → Option Nat} {M : Nat} (h : pLC g R M) : zK g (M + 143) = (102, 300) := h.2.2.2.2.2.2.1
theorem lc_f2 {g : zGd} {R : Nat → Nat → Option Nat} {M : Nat} (h : pLC g R M) : R (M + 0) 2 = some (M + 143) := h.2.2.2.2.2.2.2.1
theorem lc_k144 {g : zGd} {R : Nat → Nat → Option Nat} {M : Nat} (h : pLC g R M) : zK g (M + 144) = (101, 19) := h.2.2.2.2.2.2.2.2.1
theorem lc_f6 {g : zGd} {R : Nat → Nat → Option Nat} {M : Nat} (h : pLC g R M) : R (M + 0) 6 = some (M + 144) := h.2.2.2.2.2.2.2.2.2.1
theorem lc_k145 {g : zGd} {R : Nat → Nat → Option Nat} {M : Nat} (h : pLC g R M) : zK g (M + 145) = (101, 116) := h.2.2.2.2.2.2.2.2.2.2.1
theorem lc_f7 {g : zGd} {R : Nat → Nat → Option Nat} {M : Nat} (h : pLC g R M) : R (M + 0) 7 = some (M + 145) := h.2.2.2.2.2.2.2.2.2.2.2.1
theorem lc_k146 {g : zGd} {R : Nat → Nat → Option Nat} {M : Nat} (h : pLC g R M) : zK g (M + 146) = (101, 6) := h.2.2.2.2.2.2.2.2.2.2.2.2.1
theorem lc_f8 {g : zGd} {R : Nat → Nat → Option Nat} {M : Nat} (h : pLC g R M) : R (M + 0) 8 = some (M + 146) := h.2.2.2.2.2.2.2.2.2.2.2.2.2.1
theorem lc_k147 {g : zGd} {R : Nat → Nat → Option Nat} {M : Nat} (h : pLC g R M) : zK g (M + 147) = (101, 6) := h.2.2.2.2.2.2.2.2.2.2.2.2.2.2.1
theorem lc_f9 {g : zGd} {R : Nat → Nat → Option Nat} {M : Nat} (h : pLC g R M) : R (M + 0) 9 = some (M + 147) := h.2.2.2.2.2.2.2.2.2.2.2.2.2.2.2.1
theorem lc_k148 {g : zGd} {R : Nat → Nat → Option Nat} {M : Nat} (h : pLC g R M) : zK g (M + 148) = (101, 125) := h.2.2.2.2.2.2.2.2.2.2.2.2.2.2.2.2.1
theorem lc_f17 {g : zGd} {R : Nat → Nat → Option Nat} {M : Nat} (h : pLC g R M) : R (M + 0) 17 = some (M + 148) := h.2.2.2.2.2.2.2.2.2.2.2.2.2.2.2.2.2.1
theorem lc_k149 {g : zGd} {R : Nat → Nat → Option Nat} {M : Nat} (h : pLC g R M) : zK g (M + 149) = (101, 31) := h.2.2.2.2.2.2.2.2.2.2.2.2.2.2.2.2.2.2.1
theorem lc_f19 {g : zGd} {R : Nat → Nat → Option Nat} {M : Nat} (h : pLC g R M) : R (M + 0) 19 = some (M + 149) := h.2.2.2.2.2.2.2.2.2.2.2.2.2.2.2.2.2.2.2.1
theorem lc_k150 {g : zGd} {R : Nat → Nat → Option Nat} {M : Nat} (h : pLC g R M) : zK g (M + 150) = (102, 7776) := h.2.2.2.2.2.2.2.2.2.2.2.2.2.2.2.2.2.2.2.2.1
theorem lc_f20 {g : zGd} {R : Nat → Nat → Option Nat} {M : Nat} (h : pLC g R M) : R (M + 0) 20 = some (M + 150) := h.2.2.2.2.2.2.2.2.2.2.2.2.2.2.2.2.2.2.2.2.2
/-- what a text says: its references, the one that says nothing, what its laws give -/
abbrev pW : Type := (Int → Option Nat) × (Option Nat) × (Option Nat → Int → (Int → Int) → Option (Option Int))
def ptx (W : pW) (i : Int) : Option (Option Nat) := if 0 ≤ i ∧ i < ((4 : Nat) : Int) then some (W.1 i) else none
def pWok (g : zGd) (B : pBl) (m0 : zMm) (W : pW) : Prop :=
  (∀ q : Int, 0 ≤ q → q < ((4 : Nat) : Int) → W.1 q = zR m0 (B.1 + 71) q.toNat) ∧ W.2.1 = zS g 0 ∧
  ∀ (m : zMm), pOk B m0 m → ∀ (t : Option Nat) (w : Int32) (r : Option Int), W.2.2 t w.toInt (pI B m 144) = some r →
    ∃ la p, zgr g m 4 0 t = some la ∧ zaldr 107 g m la w = some p ∧ (match r with | none => p = none | some v => p ≠ none ∧ ∃ z : Int64, (r_E 70 g m).1 p (some (B.1 + 144)) = some z ∧ v = z.toInt)
theorem qS_l {α β γ δ : Type} {A : α → β → Prop} {B : γ → δ → Prop} {x : α} {y : β} (h : A x y) : qS A B (.inl x) (.inl y) := h
theorem qS_r {α β γ δ : Type} {A : α → β → Prop} {B : γ → δ → Prop} {x : γ} {y : δ} (h : B x y) : qS A B (.inr x) (.inr y) := h
theorem qP_i {α β γ δ : Type} {A : α → β → Prop} {B : γ → δ → Prop} {x : α} {y : β} {z : γ} {w : δ} (h : A x y) (k : B z w) : qP A B (x, z) (y, w) := ⟨h, k⟩
theorem qI_i {x : Int} {v : Int32} (h : x = v.toInt) : qI x v := h
theorem qJ_i {x : Int} {v : Int64} (h : x = v.toInt) : qJ x v := h
theorem qU_i : qU () () := trivial
theorem qM_i {B : pBl} {m0 m : zMm} (h : pOk B m0 m) : qM B m0 (pI B m) m := ⟨rfl, h⟩
