/-! READING: the model's clauses, all -/
set_option maxRecDepth 100000
def aNz (f : aFn) : Prop := ∀ st q, f st = some (.inr q) → 1 ≤ q.1 ∧ q.1 ≤ 5
section
variable {lx : Int → Int × Int × Int × Int} {kd : Int}
theorem aOp_z {st : aSt} {q : aF} (h : aOp lx st = .inr q) : 1 ≤ q.1 ∧ q.1 ≤ 5 := by
  unfold aOp at h
  by_cases c : st.o = 8
  · rw [if_pos c] at h; cases h; exact (by constructor <;> dsimp only <;> omega)
  · rw [if_neg c] at h; cases h
theorem aWt_z {c : Int} {st : aSt} {q : aF} (h : aWt lx c st = .inr q) : 1 ≤ q.1 ∧ q.1 ≤ 5 := by
  unfold aWt at h
  by_cases k : st.s = c
  · rw [if_pos k] at h; cases h
  · rw [if_neg k] at h; cases h; exact (by constructor <;> dsimp only <;> omega)
theorem aNu_z {lo hi : Int} {st : aSt} {q : aF} (h : aNu lx lo hi st = .inr q) : 1 ≤ q.1 ∧ q.1 ≤ 5 := by
  unfold aNu at h
  by_cases k : st.s = 300
  · rw [if_pos k] at h
    by_cases b : st.n < lo ∨ hi < st.n
    · rw [if_pos b] at h; cases h; exact (by constructor <;> dsimp only <;> omega)
    · rw [if_neg b] at h; cases h
  · rw [if_neg k] at h; cases h; exact (by constructor <;> dsimp only <;> omega)
theorem aB_z {α β : Type} {x : α ⊕ aF} {k : α → Option (β ⊕ aF)} {q : aF} (h : aB x k = some (.inr q)) (hx : ∀ q, x = .inr q → 1 ≤ q.1 ∧ q.1 ≤ 5) (hk : ∀ a q, x = .inl a → k a = some (.inr q) → 1 ≤ q.1 ∧ q.1 ≤ 5) : 1 ≤ q.1 ∧ q.1 ≤ 5 := by
  cases x with
  | inl a => exact hk a q rfl h
  | inr f => cases h; exact hx _ rfl
theorem bind_z {α β : Type} {x : Option α} {k : α → Option β} {r : β} (h : x.bind k = some r) : ∃ a, x = some a ∧ k a = some r := by
  cases x with
  | none => cases h
  | some a => exact ⟨a, rfl, h⟩
theorem aCh_z {c1 c2 o1 o2 : Int} {f : aFn} (hf : aNz f) : aNz (aCh lx c1 c2 o1 o2 f) := by
  intro st q h
  obtain ⟨r, h1, h⟩ := bind_z h
  refine aB_z h (fun q e => hf st q (by rw [h1, e])) (fun x q _ h2 => ?_)
  obtain ⟨y, h3, h4⟩ := bind_z h2
  have loop : ∀ (F : Nat) (z : aC × aSt) (q : aF), zLoop (aMo lx c1 c2 o1 o2 f) F z = some (.inl q) → 1 ≤ q.1 ∧ q.1 ≤ 5 := by
    intro F
    induction F with
    | zero => intro z q e; cases e
    | succ F ih =>
      intro z q e
      rw [zLoop_s] at e
      by_cases hs : z.2.s = c1 ∨ z.2.s = c2
      · cases e3 : f (aNx lx z.2) with
        | none =>
          have : aMo lx c1 c2 o1 o2 f z = none := by unfold aMo; rw [if_pos hs, e3]; rfl
          rw [this] at e; cases e
        | some r =>
          cases r with
          | inr q' =>
            have : aMo lx c1 c2 o1 o2 f z = some (.inl (.inl q')) := by unfold aMo; rw [if_pos hs, e3]; rfl
            rw [this] at e; cases e
            exact hf _ _ e3
          | inl x =>
            have : aMo lx c1 c2 o1 o2 f z = some (.inr (z.1 ++ x.1 ++ [(if z.2.s = c1 then o1 else o2, 0)], x.2)) := by unfold aMo; rw [if_pos hs, e3]; rfl
            rw [this] at e
            exact ih _ _ e
      · have : aMo lx c1 c2 o1 o2 f z = some (.inl (.inr z)) := by unfold aMo; rw [if_neg hs]
        rw [this] at e; cases e
  cases y with
  | inl f' => cases h4; exact loop _ _ _ h3
  | inr z => cases h4
theorem aTk_z : ∀ d : Nat, aNz (aTk lx kd d).1 ∧ aNz (aTk lx kd d).2.1 ∧ aNz (aTk lx kd d).2.2.1 ∧ aNz (aTk lx kd d).2.2.2.1 ∧ aNz (aTk lx kd d).2.2.2.2.1 ∧ aNz (aTk lx kd d).2.2.2.2.2.1 ∧ aNz (aTk lx kd d).2.2.2.2.2.2
  | 0 => by
    refine ⟨?_, ?_, ?_, ?_, ?_, ?_, ?_⟩ <;> (intro st q h; cases h)
  | d + 1 => by
    obtain ⟨i1, i2, i3, i4, i5, i6, i7⟩ := aTk_z d
    refine ⟨?_, aCh_z i1, aCh_z i2, ?_, ?_, aCh_z i5, aCh_z i6⟩
    · intro st q h
      have h : aAsk lx (aTk lx kd d) st = some (.inr q) := h
      unfold aAsk at h
      by_cases h2 : st.s = 219
      · rw [if_pos h2] at h
        refine aB_z h (fun q e => aOp_z e) (fun s1 q _ h => ?_)
        obtain ⟨r, h1, h⟩ := bind_z h
        exact aB_z h (fun q e => i1 s1 q (by rw [h1, e])) (fun x q _ h => by cases h)
      · rw [if_neg h2] at h
        obtain ⟨r, h1, h⟩ := bind_z h
        refine aB_z h (fun q e => i7 st q (by rw [h1, e])) (fun x q _ h => ?_)
        by_cases h3 : aCm x.2.s = -1
        · rw [if_pos h3] at h; cases h; exact (by constructor <;> dsimp only <;> omega)
        · rw [if_neg h3] at h
          obtain ⟨r2, h4, h⟩ := bind_z h
          exact aB_z h (fun q e => i7 _ q (by rw [h4, e])) (fun x q _ h => by cases h)
    · intro st q h
      have h : aChoice lx (aTk lx kd d) st = some (.inr q) := h
      unfold aChoice at h
      refine aB_z h (fun q e => aOp_z e) (fun s1 q _ h => ?_)
      obtain ⟨r, h1, h⟩ := bind_z h
      refine aB_z h (fun q e => i3 s1 q (by rw [h1, e])) (fun x q _ h => ?_)
      refine aB_z h (fun q e => aWt_z e) (fun s2 q _ h => ?_)
      obtain ⟨r2, h2, h⟩ := bind_z h
      refine aB_z h (fun q e => i7 s2 q (by rw [h2, e])) (fun y q _ h => ?_)
      refine aB_z h (fun q e => aWt_z e) (fun s3 q _ h => ?_)
      obtain ⟨r3, h3, h⟩ := bind_z h
      refine aB_z h (fun q e => i7 s3 q (by rw [h3, e])) (fun z q _ h => ?_)
      exact aB_z h (fun q e => aWt_z e) (fun s4 q _ h => by cases h)
    · intro st q h
      have h : aOne lx kd (aTk lx kd d) st = some (.inr q) := h
      unfold aOne at h
      by_cases c1 : st.s = 300
      · rw [if_pos c1] at h
        exact aB_z h (fun q e => aNu_z e) (fun x q _ h => by cases h)
      rw [if_neg c1] at h
      by_cases c2 : st.s = 213
      · rw [if_pos c2] at h; exact i4 st q h
      rw [if_neg c2] at h
      by_cases c3 : aNm st.s = -1
      · rw [if_pos c3] at h
        by_cases c4 : st.s = 40
        · rw [if_pos c4] at h
          refine aB_z h (fun q e => aOp_z e) (fun s1 q _ h => ?_)
          obtain ⟨r, h1, h⟩ := bind_z h
          refine aB_z h (fun q e => i7 s1 q (by rw [h1, e])) (fun x q _ h => ?_)
          exact aB_z h (fun q e => aWt_z e) (fun s4 q _ h => by cases h)
        · rw [if_neg c4] at h
          by_cases c5 : st.s = 45 ∨ st.s = 211 ∨ st.s = 212
          · rw [if_pos c5] at h
            refine aB_z h (fun q e => aOp_z e) (fun s1 q _ h => ?_)
            obtain ⟨r, h1, h⟩ := bind_z h
            exact aB_z h (fun q e => i5 s1 q (by rw [h1, e])) (fun x q _ h => by cases h)
          · rw [if_neg c5] at h; cases h; exact (by constructor <;> dsimp only <;> omega)
      · rw [if_neg c3] at h
        by_cases c6 : aMy kd (aNm st.s) = true
        · rw [if_pos c6] at h; cases h
        · rw [if_neg c6] at h; cases h; exact (by constructor <;> dsimp only <;> omega)
end
section
variable {E T : zP} {lx : Int → Int × Int × Int × Int} {tx nn : Int} {st : aSt} {Cl : List aCl} {C : aC}
theorem aOnce_vu (Cl : List aCl) (w v u v' u' : Int) : aOnce (Cl ++ [(w, v, u)]) = aOnce (Cl ++ [(w, v', u')]) := by
  unfold aOnce
  rw [aHas_a, aHas_a, aHas_a, aHas_a]
/-- ahead of a clause's body -/
def qA (E : zP) (tx : Int) (st : aSt) (Cl : List aCl) (C : aC) (w : Int) (T : zP) : Prop :=
  tR T st ∧ wF E tx T ∧ T 0 12 = tx ∧ T 0 13 = (C.length : Int) ∧ T 0 14 = w ∧ T 0 19 = aOnce (Cl ++ [(w, 0, 0)]) ∧ T 3 tx = (Cl.length : Int) ∧
  (∀ (i : Nat) (c : aCl), Cl[i]? = some c → T 3 (tx + 1 + 3 * (i : Int)) = c.1 ∧ T 3 (tx + 2 + 3 * (i : Int)) = c.2.1 ∧ ((c.1 ≤ 2 ∨ c.1 = 4 ∨ c.1 = 6) → T 3 (tx + 3 + 3 * (i : Int)) = c.2.2)) ∧
  T 3 (tx + 1 + 3 * (Cl.length : Int)) = w ∧ pCd T tx C ∧ (C.length : Int) ≤ st.p
/-- a body that lays two numbers alone -/
theorem qB_of (t0 : 0 ≤ tx) {w v u : Int} {s' : aSt} {T' : zP} (h : qA E tx st Cl C w T) (hcl : Cl.length < 24) (hR : tR T' s') (hp : st.p < s'.p) (f1 : ∀ c, c ≠ 0 → c ≠ 3 → T' c = T c) (f2 : ∀ i, i < 7 ∨ 11 < i → T' 0 i = T 0 i) (f3 : ∀ j, j ≠ tx + 1 + 3 * (Cl.length : Int) + 1 → j ≠ tx + 1 + 3 * (Cl.length : Int) + 2 → T' 3 j = T 3 j) (hv : T' 3 (tx + 1 + 3 * (Cl.length : Int) + 1) = v) (hu : (w ≤ 2 ∨ w = 4 ∨ w = 6) → T' 3 (tx + 1 + 3 * (Cl.length : Int) + 2) = u) : qB E tx s' Cl C w v u T' := by
  obtain ⟨h1, h2, h3, h4, h5, h6, h7, h8, h9, h10, h11⟩ := h
  refine ⟨hR, ⟨fun c a b d => (f1 c a b).trans (h2.1 c a b d), fun i hi => (f2 i (by omega)).trans (h2.2.1 i hi), fun j hj => (f3 j (by omega) (by omega)).trans (h2.2.2 j hj)⟩, (f2 12 (by omega)).trans h3, (f2 13 (by omega)).trans h4, ((f2 19 (by omega)).trans h6).trans (aOnce_vu _ _ _ _ _ _), (f3 _ (by omega) (by omega)).trans h7, fun i c hi => ?_, ⟨(f3 _ (by omega) (by omega)).trans h9, ?_, fun x => ?_⟩, fun i x hi => ?_, by omega⟩
  · have hil : i < Cl.length := by
      rcases Nat.lt_or_ge i Cl.length with y | y
      · exact y
      · rw [List.getElem?_eq_none y] at hi; cases hi
    rw [f3 _ (by omega) (by omega), f3 _ (by omega) (by omega), f3 _ (by omega) (by omega)]
    exact h8 i c hi
  · rw [show tx + 2 + 3 * (Cl.length : Int) = tx + 1 + 3 * (Cl.length : Int) + 1 by omega]; exact hv
  · rw [show tx + 3 + 3 * (Cl.length : Int) = tx + 1 + 3 * (Cl.length : Int) + 2 by omega]; exact hu x
  · rw [f3 _ (by omega) (by omega), f3 _ (by omega) (by omega)]
    exact h10 i x hi
set_option maxHeartbeats 1000000 in
theorem k_body (hl : aLx lx E nn) (n300 : nn ≤ 300) (t0 : 0 ≤ tx) (t1 : tx ≤ 2043) (hcl : Cl.length < 24) {kd : Int} (k0 : 200 ≤ kd) (k1 : kd ≤ 207) (h : qA E tx st Cl C (kd - 200) T) (hv : aV nn st) (ho : st.o = 0) {r : ((Int × Int) × aC × aSt) ⊕ aF} (hr : aBody lx kd C st = some r) :
    (∃ f p T', r = .inr (f, p) ∧ p_X2_body T (kd - 200) (tx + 1 + 3 * (Cl.length : Int)) = some (f, T') ∧ f ≠ 0 ∧ T' 0 8 = p ∧ wF E tx T') ∨ ∃ v u C' s' T', r = .inl ((v, u), C', s') ∧ p_X2_body T (kd - 200) (tx + 1 + 3 * (Cl.length : Int)) = some (0, T') ∧ qB E tx s' Cl C' (kd - 200) v u T' ∧ aV nn s' ∧ s'.o = 0 ∧ st.p < s'.p := by
  have hh := h
  obtain ⟨h1, h2, h3, h4, h5, h6, h7, h8, h9, h10, h11⟩ := h
  have e4 : T 4 = E 4 := h2.1 4 (by omega) (by omega) (by omega)
  have e04 : T 0 4 = E 0 4 := h2.2.1 4 (by omega)
  obtain ⟨x, ex⟩ : ∃ x, x = tx + 1 + 3 * (Cl.length : Int) := ⟨_, rfl⟩
  rw [← ex]
  have wf : ∀ T' : zP, (∀ c, c ≠ 0 → c ≠ 3 → T' c = T c) → (∀ i, i < 7 ∨ 11 < i → T' 0 i = T 0 i) → (∀ j, j ≠ x + 1 → j ≠ x + 2 → T' 3 j = T 3 j) → wF E tx T' := fun T' a b c => ⟨fun k p q r => (a k p q).trans (h2.1 k p q r), fun i hi => (b i (by omega)).trans (h2.2.1 i hi), fun j hj => (c j (by omega) (by omega)).trans (h2.2.2 j hj)⟩
  unfold aBody at hr
  by_cases hlaw : kd ≤ 201
  · rw [if_pos hlaw] at hr
    obtain ⟨r1, hr1, hr⟩ := bind_z hr
    have hk : kd = 200 ∨ kd = 201 := by omega
    obtain ⟨S, eS⟩ : ∃ S, S = pup T 3 (x + 1) (C.length : Int) := ⟨_, rfl⟩
    have Sc : ∀ c, c ≠ 3 → S c = T c := fun c hc => by rw [eS, pup_r hc]
    have Si : ∀ j, j ≠ x + 1 → S 3 j = T 3 j := fun j hj => by rw [eS, pup_k hj]
    have hq := k_summed (T := S) (C := C) (tx := tx) (st := st) hl n300 t0 t1 hk (tR_c h1 (fun i _ => by rw [Sc 0 (by omega)]) (Sc 4 (by omega))) hv ho ((Sc 4 (by omega)).trans e4) (by rw [Sc 0 (by omega)]; exact e04) (by rw [Sc 0 (by omega)]; exact h3) (by rw [Sc 0 (by omega)]; exact h4) (by rw [Sc 0 (by omega)]; exact h5) (fun i z hi => by rw [Si _ (by omega), Si _ (by omega)]; exact h10 i z hi) h11 hr1
    have xe : p32 (x + 1) = fun K : Int → Option (Int × zP) => K (x + 1) := by
      funext K; exact p32_n (by omega) (by omega)
    have bod : ∀ f T1, p_X2_summed S = some (f, T1) → p_X2_body T (kd - 200) x = some (f, pup T1 3 (x + 2) (T1 0 13)) := fun f T1 e => by
      have e1 : p_X2_lawClause T x = some (f, pup T1 3 (x + 2) (T1 0 13)) := by
        unfold p_X2_lawClause
        dsimp only [zlt]
        have pa : past T 3 2724 (x + 1) (T 0 13) = some S := by rw [eS, ← h4]; exact if_pos (by omega)
        rw [p32_n (by omega) (by omega), pa]
        dsimp only [Option.bind_some]
        rw [e]
        dsimp only [Option.bind_some]
        have pb : past T1 3 2724 (x + 2) (T1 0 13) = some (pup T1 3 (x + 2) (T1 0 13)) := if_pos (by omega)
        rw [p32_n (by omega) (by omega), pb]
        rfl
      unfold p_X2_body
      rw [if_neg (by omega), if_neg (by omega), if_neg (by omega), if_neg (by omega), if_neg (by omega), if_neg (by omega), e1]
      rfl
    rcases hq with ⟨f, p, T1, q1, q2, q3, q4, q5, q6, q7⟩ | ⟨L, s', T1, q1, q3, q4, q5, q6, q7, q8, q9, q10, q11, q12, q13⟩
    · subst q1
      cases hr
      have hf := (aTk_z 80).2.2.2.2.2.2 st _ hr1
      refine Or.inl ⟨f, p, _, rfl, bod f T1 q3, by have : 1 ≤ f := hf.1; omega, (pup_c (by omega)).trans q4, fun c a b d => ?_, fun i hi => ?_, fun j hj => ?_⟩
      · rw [pup_r b, q5 c a b d, Sc c b]; exact h2.1 c a b d
      · rw [pup_c (by omega), q6 i (by omega), Sc 0 (by omega)]; exact h2.2.1 i hi
      · rw [pup_k (by omega), q7 j (by omega), Si j (by omega)]; exact h2.2.2 j hj
    · subst q1
      cases hr
      refine Or.inr ⟨(C.length : Int), ((C ++ L).length : Int), C ++ L, s', _, rfl, bod 0 T1 q3, ?_, q5, q6, q7⟩
      have e3 : ∀ j, (j < tx + 73) → j ≠ x + 1 → j ≠ x + 2 → pup T1 3 (x + 2) (T1 0 13) 3 j = T 3 j := fun j a b c => by rw [pup_k c, q10 j (by omega), Si j b]
      refine ⟨tR_c q4 (fun i _ => pup_c (by omega)) (pup_r (by omega)), ⟨fun c a b d => ?_, fun i hi => ?_, fun j hj => ?_⟩, ?_, ?_, ?_, ?_, fun i c hi => ?_, ⟨?_, ?_, fun _ => ?_⟩, fun i z hi => ?_, q13⟩
      · rw [pup_r b, q8 c a b d, Sc c b]; exact h2.1 c a b d
      · rw [pup_c (by omega), q9 i (by omega), Sc 0 (by omega)]; exact h2.2.1 i hi
      · rw [pup_k (by omega), q10 j (by omega), Si j (by omega)]; exact h2.2.2 j hj
      · rw [pup_c (by omega), q9 12 (by omega), Sc 0 (by omega)]; exact h3
      · rw [pup_c (by omega)]; exact q11
      · rw [pup_c (by omega), q9 19 (by omega), Sc 0 (by omega), h6]; exact aOnce_vu _ _ _ _ _ _
      · rw [e3 _ (by omega) (by omega) (by omega)]; exact h7
      · have hil : i < Cl.length := by
          rcases Nat.lt_or_ge i Cl.length with y | y
          · exact y
          · rw [List.getElem?_eq_none y] at hi; cases hi
        rw [e3 _ (by omega) (by omega) (by omega), e3 _ (by omega) (by omega) (by omega), e3 _ (by omega) (by omega) (by omega)]
        exact h8 i c hi
      · rw [e3 _ (by omega) (by omega) (by omega)]; exact h9
      · rw [show tx + 2 + 3 * (Cl.length : Int) = x + 1 by omega, pup_k (by omega), q10 _ (by omega), eS, pup_e rfl]
      · rw [show tx + 3 + 3 * (Cl.length : Int) = x + 2 by omega, pup_e rfl]; exact q11
      · rw [pup_k (by omega), pup_k (by omega)]
        exact q12 i z hi
  · rw [if_neg hlaw] at hr
    have two : ∀ (hi w lo2 hi2 kw : Int), (w, kw) ∈ tWs → hi ≤ 9999 → 0 ≤ lo2 → hi2 ≤ 9999 → (aDo lx kd st = aTwo lx hi w lo2 hi2 st) → (p_X2_body T (kd - 200) x = p_X2_pair T x hi kw lo2 hi2) → (∃ f p T', r = .inr (f, p) ∧ p_X2_body T (kd - 200) x = some (f, T') ∧ f ≠ 0 ∧ T' 0 8 = p ∧ wF E tx T') ∨ ∃ v u C' s' T', r = .inl ((v, u), C', s') ∧ p_X2_body T (kd - 200) x = some (0, T') ∧ qB E tx s' Cl C' (kd - 200) v u T' ∧ aV nn s' ∧ s'.o = 0 ∧ st.p < s'.p := fun hi w lo2 hi2 kw hw a b c ed eb => by
      rw [ed] at hr
      rw [eb]
      rcases k_pair hl h1 e4 e04 hv (x := x) hw (by omega) (by omega) a b c with ⟨f, p, T', q1, q2, q3, q4, q5, q6, q7⟩ | ⟨v, u, s', T', q1, q2, q3, q4, q5, q6, q7, q8, q9, q10, q11⟩
      · rw [q1] at hr
        cases hr
        exact Or.inl ⟨f, p, T', rfl, q2, q3, q4, wf T' q5 q6 q7⟩
      · rw [q1] at hr
        cases hr
        refine Or.inr ⟨v, u, C, s', T', rfl, q2, ?_, q4, q5.trans ho, q6⟩
        rw [ex] at q9 q10 q11
        exact qB_of t0 hh hcl q3 q6 q7 q8 q9 q10 (fun _ => q11)
    have sin : ∀ (lo hi : Int), 0 ≤ lo → hi ≤ 9999 → (aDo lx kd st = aSin lx lo hi st) → (p_X2_body T (kd - 200) x = p_X2_figure T (x + 1) lo hi) → ¬ (kd - 200 ≤ 2 ∨ kd - 200 = 4 ∨ kd - 200 = 6) → (∃ f p T', r = .inr (f, p) ∧ p_X2_body T (kd - 200) x = some (f, T') ∧ f ≠ 0 ∧ T' 0 8 = p ∧ wF E tx T') ∨ ∃ v u C' s' T', r = .inl ((v, u), C', s') ∧ p_X2_body T (kd - 200) x = some (0, T') ∧ qB E tx s' Cl C' (kd - 200) v u T' ∧ aV nn s' ∧ s'.o = 0 ∧ st.p < s'.p := fun lo hi a b ed eb nk => by
      rw [ed] at hr
      rw [eb]
      rcases k_single hl h1 e4 e04 hv (x := x) (lo := lo) (hi := hi) (by omega) (by omega) b a with ⟨f, p, T', q1, q2, q3, q4, q5, q6, q7⟩ | ⟨v, s', T', q1, q2, q3, q4, q5, q6, q7, q8, q9, q10⟩
      · rw [q1] at hr
        cases hr
        exact Or.inl ⟨f, p, T', rfl, q2, q3, q4, wf T' q5 q6 q7⟩
      · rw [q1] at hr
        cases hr
        refine Or.inr ⟨v, -1, C, s', T', rfl, q2, ?_, q4, q5.trans ho, q6⟩
        rw [ex] at q9 q10
        exact qB_of t0 hh hcl q3 q6 q7 q8 q9 q10 (fun y => absurd y nk)
    have eta : ∀ o : Option (Int × zP), (o.bind fun (v, S) => some (v, S)) = o := fun o => by cases o <;> rfl
    have pe : ∀ K : Int → Option (Int × zP), p32 (x + 1) K = K (x + 1) := fun K => p32_n (by omega) (by omega)
    rcases (show kd = 202 ∨ kd = 203 ∨ kd = 204 ∨ kd = 205 ∨ kd = 206 ∨ kd = 207 by omega) with e | e | e | e | e | e
    · subst e
      refine two 9 208 0 99 1801810036 (by decide) (by omega) (by omega) (by omega) rfl ?_
      unfold p_X2_body
      rw [if_pos (by omega), w_kept]
      exact eta _
    · subst e
      refine sin 0 5 (by omega) (by omega) rfl ?_ (by omega)
      unfold p_X2_body
      rw [if_neg (by omega), if_pos (by omega), pe]
      exact eta _
    · subst e
      refine two 5 209 1 99 25209 (by decide) (by omega) (by omega) (by omega) rfl ?_
      unfold p_X2_body
      rw [if_neg (by omega), if_neg (by omega), if_pos (by omega), w_by]
      exact eta _
    · subst e
      refine sin 0 5 (by omega) (by omega) rfl ?_ (by omega)
      unfold p_X2_body
      rw [if_neg (by omega), if_neg (by omega), if_neg (by omega), if_pos (by omega), pe]
      exact eta _
    · subst e
      refine two 5 210 0 5 2003399784 (by decide) (by omega) (by omega) (by omega) rfl ?_
      unfold p_X2_body
      rw [if_neg (by omega), if_neg (by omega), if_neg (by omega), if_neg (by omega), if_pos (by omega), w_with]
      exact eta _
    · subst e
      refine sin 1 60 (by omega) (by omega) rfl ?_ (by omega)
      unfold p_X2_body
      rw [if_neg (by omega), if_neg (by omega), if_neg (by omega), if_neg (by omega), if_neg (by omega), if_pos (by omega), pe]
      exact eta _
end
