/-! ROWS 2: fields, arrays, what is made, statics -/
set_option maxRecDepth 100000
/-! what the shallow programs do with cells -/
def zgi (g : zGd) (m : zMm) (ci k : Nat) (a : Option Nat) : Option Int32 := a.bind fun a => if (zK g a).1 = ci + 1 then some (zI m a k) else none
def zgj (g : zGd) (m : zMm) (ci k : Nat) (a : Option Nat) : Option Int64 := a.bind fun a => if (zK g a).1 = ci + 1 then some (zJ m a k) else none
def zgr (g : zGd) (m : zMm) (ci k : Nat) (a : Option Nat) : Option (Option Nat) := a.bind fun a => if (zK g a).1 = ci + 1 then some (zR m a k) else none
def zpi (g : zGd) (m : zMm) (ci k : Nat) (a : Option Nat) (v : Int32) : Option zMm := a.bind fun a => if (zK g a).1 = ci + 1 ∧ zB g ≤ a then some (zsI m a k v) else none
def zpz (g : zGd) (m : zMm) (ci k : Nat) (a : Option Nat) (v : Int32) : Option zMm := a.bind fun a => if ((zK g a).1 = ci + 1 ∧ zB g ≤ a) ∧ (v = 0 ∨ v = 1) then some (zsI m a k v) else none
def zpj (g : zGd) (m : zMm) (ci k : Nat) (a : Option Nat) (v : Int64) : Option zMm := a.bind fun a => if (zK g a).1 = ci + 1 ∧ zB g ≤ a then some (zsJ m a k v) else none
def zpr (g : zGd) (m : zMm) (ci k : Nat) (a : Option Nat) (v : Option Nat) : Option zMm := a.bind fun a => if (zK g a).1 = ci + 1 ∧ zB g ≤ a then some (zsR m a k v) else none
def zix (i : Int32) (n : Nat) : Prop := ¬ (i < 0 ∨ n ≤ i.toNatClampNeg)
def zald (t : Nat) (g : zGd) (m : zMm) (a : Option Nat) (i : Int32) : Option Int32 := a.bind fun a => if (zK g a).1 = t ∧ ¬ (i < 0 ∨ (zK g a).2 ≤ i.toNatClampNeg) then some (zI m a i.toNatClampNeg) else none
def zaldj (g : zGd) (m : zMm) (a : Option Nat) (i : Int32) : Option Int64 := a.bind fun a => if (zK g a).1 = 104 ∧ ¬ (i < 0 ∨ (zK g a).2 ≤ i.toNatClampNeg) then some (zJ m a i.toNatClampNeg) else none
def zaldr (t : Nat) (g : zGd) (m : zMm) (a : Option Nat) (i : Int32) : Option (Option Nat) := a.bind fun a => if (zK g a).1 = t ∧ ¬ (i < 0 ∨ (zK g a).2 ≤ i.toNatClampNeg) then some (zR m a i.toNatClampNeg) else none
def zast (t : Nat) (g : zGd) (m : zMm) (a : Option Nat) (i v : Int32) : Option zMm := a.bind fun a => if ((zK g a).1 = t ∧ zB g ≤ a) ∧ ¬ (i < 0 ∨ (zK g a).2 ≤ i.toNatClampNeg) then some (zsI m a i.toNatClampNeg v) else none
def zastj (g : zGd) (m : zMm) (a : Option Nat) (i : Int32) (v : Int64) : Option zMm := a.bind fun a => if ((zK g a).1 = 104 ∧ zB g ≤ a) ∧ ¬ (i < 0 ∨ (zK g a).2 ≤ i.toNatClampNeg) then some (zsJ m a i.toNatClampNeg v) else none
def zalen (g : zGd) (a : Option Nat) : Option Int32 := a.bind fun a => if 101 ≤ (zK g a).1 ∧ (zK g a).1 ≤ 110 then some (Int32.ofNat (zK g a).2) else none
def znewo (g : zGd) (m : zMm) (ci : Nat) : zGd × zMm := (zgrow g (zSl ci) (ci + 1) 0, zfresh m (zZ g))
def znewa (t : Nat) (g : zGd) (m : zMm) (n : Int32) : Option (zGd × zMm) := if ¬ n < 0 ∧ n.toNatClampNeg * 8 ≤ 536870912 then some (zgrow g n.toNatClampNeg t n.toNatClampNeg, zfresh m (zZ g)) else none
theorem zop {α β : Type} {p : Nat → Prop} [DecidablePred p] {f : Nat → α} {a : Option Nat} {K : α → Option β} {fin : β} (h : (a.bind fun a => if p a then some (f a) else none).bind K = some fin) : ∃ a0, a = some a0 ∧ p a0 ∧ K (f a0) = some fin := by
  cases a with
  | none => cases h
  | some a0 =>
    rw [Option.bind_some] at h
    by_cases hp : p a0
    · rw [if_pos hp] at h; exact ⟨a0, rfl, hp, h⟩
    · rw [if_neg hp] at h; cases h
theorem zK1 {g : zGd} {a t : Nat} (h : (zK g a).1 = t) : zK g a = (t, (zK g a).2) := by rw [← h]
section
variable {X : zCx} {cc : ByteArray} {nL pc fr lo : Nat} {own mn : String} {L : List (Nat × Value)} {st : List Value} {g : zGd} {m : zMm} {α : Type} {fin : α}
theorem zRn.at {H : Heap} {locs : List Loc} {cells slots : Nat} (hR : zRn X g m H locs cells slots) {a ci : Nat} (h : (zK g a).1 = ci + 1) (hc : ci < 100) : va_P (xD X).1 zCl [(a, .inr (ci, zFs ci m a))] H := by
  intro k q hq
  have hz : k < 1 := (List.getElem?_eq_some_iff.mp hq).1
  rw [show k = 0 by omega] at hq
  cases hq
  have h2 := hR.1.2.1 a (by omega)
  rwa [zE_o (zK1 h) hc] at h2
theorem zRn.ai {H : Heap} {locs : List Loc} {cells slots : Nat} (hR : zRn X g m H locs cells slots) {a t : Nat} (h : (zK g a).1 = t + 101) (ht : t < 3) : zAr H a ((xD X).2 t) (zK g a).2 (fun j => .int (zI m a j)) := by
  have h2 := hR.1.2.1 a (by omega)
  rwa [zE_i (zK1 h) ht] at h2
theorem zRn.al {H : Heap} {locs : List Loc} {cells slots : Nat} (hR : zRn X g m H locs cells slots) {a : Nat} (h : (zK g a).1 = 104) : zAr H a ((xD X).2 3) (zK g a).2 (fun j => .long (zJ m a j)) := by
  have h2 := hR.1.2.1 a (by omega)
  rwa [zE_l (zK1 h)] at h2
theorem zRn.aq {H : Heap} {locs : List Loc} {cells slots : Nat} (hR : zRn X g m H locs cells slots) {a t : Nat} (h : (zK g a).1 = t + 101) (ht : 4 ≤ t) : zAr H a ((xD X).2 t) (zK g a).2 (fun j => va_rf (zR m a j)) := by
  have h2 := hR.1.2.1 a (by omega)
  rwa [zE_q (zK1 h) ht] at h2
theorem zNoSt {cell : Cell} (h : ∀ k, cell.vm ≠ .statics k) : cell.vm.isStatics = false := by
  cases e : cell.vm <;> first | rfl | exact absurd e (h _)
theorem zIsA {U : State} {c : ClassId} {ty : FieldType} {cell : Cell} (hA : ArrOfT U c ty) (h1 : cell.cls = c) (h2 : cell.vm ≠ .unknown ∧ ∀ k, cell.vm ≠ .statics k) : U.isArrayOf cell ty := ⟨h2.2, by rw [h1]; exact (hA 0 (fun _ => .null)).2⟩
/-- a cell was written -/
theorem zRn.put {H H1 : Heap} {locs : List Loc} {cells slots : Nat} {m' : zMm} {a k : Nat} (hR : zRn X g m H locs cells slots) (hb : zB g ≤ a) (hz : H1.size = H.size) (oq : ∀ q : Nat, q ≠ a → H1[q]? = H[q]?) (ha : zAt (xD X) (a, zE (xD X) g m' a) H1) (ho : ∀ q : Nat, q ≠ a → zE (xD X) g m' q = zE (xD X) g m q) (hm : (zK g a).1 = 6 → ∃ cell : Cell, H1[a]? = some cell ∧ (cell.monitor.owner = none ∧ cell.monitor.count = 0) ∧ cell.slots.size = 8) : zRn X g m' H1 (locs ++ [⟨a, k⟩]) cells slots :=
  ⟨hR.1.set hz oq ha ho hm, hR.2.1.put hz oq (show zB (xg X) ≤ a by rw [← hR.2.2.2.2.1]; exact hb), hR.2.2⟩
theorem zsI_o {a k : Nat} {v : Int32} {D : zDc} (q : Nat) (h : q ≠ a) : zE D g (zsI m a k v) q = zE D g m q := zE_up (by rw [zsI_I]; exact zup_r _ v h) rfl rfl
theorem zsJ_o {a k : Nat} {v : Int64} {D : zDc} (q : Nat) (h : q ≠ a) : zE D g (zsJ m a k v) q = zE D g m q := zE_up rfl (by rw [zsJ_J]; exact zup_r _ v h) rfl
theorem zsR_o {a k : Nat} {v : Option Nat} {D : zDc} (q : Nat) (h : q ≠ a) : zE D g (zsR m a k v) q = zE D g m q := zE_up rfl rfl (by rw [zsR_R]; exact zup_r _ v h)
theorem zup_upd {f : Nat → Nat → Int32} {a k : Nat} {v : Int32} : zup f a k v a = upd (f a) k v := by
  funext j
  by_cases h : j = k
  · subst h; simp [zup, upd]
  · simp [zup, upd, h]
/-- getfield -/
theorem g_geti {C ref : String} {T : u_T} {N ci index k : Nat} {a : Option Nat} {K : Int32 → Option α} (hc : zCl[ci]? = some (C, T, N)) (hin : ∀ w ∈ u_ws C T N, w ∈ lw_all) (hk : k < N) (hz : zF ci k = 0) (q : Cond.fieldLink own index ref (T k).2.1 (T k).2.2.1 ∈ lw_all) (hsame : ∀ x, (xs X).fieldFound? (T k).1 (T k).2.1 (T k).2.2.1 = some x → (xs X).fieldFound? ref (T k).2.1 (T k).2.2.1 = some x) (hlt : ci < 100 ∧ k < zN ci) (d : decode cc pc = .ok (.getfield index, 3)) (h : (zgi g m ci k a).bind K = some fin) (kk : ∀ v, K v = some fin → zG X cc nL own mn fr lo (pc + 3) L (.int v :: st) g m) : zG X cc nL own mn fr lo pc L (va_rf a :: st) g m := by
  obtain ⟨a0, rfl, h1, h2⟩ := zop h
  refine ⟨(kk _ h2).1, fun hF H locs cells slots ls hR hL => ?_⟩
  refine va_get (D := (xD X).1) hF.ex hF.by hF.ts hin hF.ow hF.K (hR.at h1 hlt.1) 0 rfl hc k hk (hF.ts _ q) hsame (v := .int (zI m a0 k)) ?_ d ((kk _ h2).2 hF H locs cells slots ls hR hL)
  rw [zFs_at m a0 hlt.2]; unfold zV; rw [hz]; rfl
theorem g_getj {C ref : String} {T : u_T} {N ci index k : Nat} {a : Option Nat} {K : Int64 → Option α} (hc : zCl[ci]? = some (C, T, N)) (hin : ∀ w ∈ u_ws C T N, w ∈ lw_all) (hk : k < N) (hz : zF ci k = 1) (q : Cond.fieldLink own index ref (T k).2.1 (T k).2.2.1 ∈ lw_all) (hsame : ∀ x, (xs X).fieldFound? (T k).1 (T k).2.1 (T k).2.2.1 = some x → (xs X).fieldFound? ref (T k).2.1 (T k).2.2.1 = some x) (hlt : ci < 100 ∧ k < zN ci) (d : decode cc pc = .ok (.getfield index, 3)) (h : (zgj g m ci k a).bind K = some fin) (kk : ∀ v, K v = some fin → zG X cc nL own mn fr lo (pc + 3) L (.long v :: st) g m) : zG X cc nL own mn fr lo pc L (va_rf a :: st) g m := by
  obtain ⟨a0, rfl, h1, h2⟩ := zop h
  refine ⟨(kk _ h2).1, fun hF H locs cells slots ls hR hL => ?_⟩
  refine va_get (D := (xD X).1) hF.ex hF.by hF.ts hin hF.ow hF.K (hR.at h1 hlt.1) 0 rfl hc k hk (hF.ts _ q) hsame (v := .long (zJ m a0 k)) ?_ d ((kk _ h2).2 hF H locs cells slots ls hR hL)
  rw [zFs_at m a0 hlt.2]; unfold zV; rw [hz]; rfl
theorem g_getr {C ref : String} {T : u_T} {N ci index k : Nat} {a : Option Nat} {K : Option Nat → Option α} (hc : zCl[ci]? = some (C, T, N)) (hin : ∀ w ∈ u_ws C T N, w ∈ lw_all) (hk : k < N) (hz : zF ci k = 2) (q : Cond.fieldLink own index ref (T k).2.1 (T k).2.2.1 ∈ lw_all) (hsame : ∀ x, (xs X).fieldFound? (T k).1 (T k).2.1 (T k).2.2.1 = some x → (xs X).fieldFound? ref (T k).2.1 (T k).2.2.1 = some x) (hlt : ci < 100 ∧ k < zN ci) (d : decode cc pc = .ok (.getfield index, 3)) (h : (zgr g m ci k a).bind K = some fin) (kk : ∀ v, K v = some fin → zG X cc nL own mn fr lo (pc + 3) L (va_rf v :: st) g m) : zG X cc nL own mn fr lo pc L (va_rf a :: st) g m := by
  obtain ⟨a0, rfl, h1, h2⟩ := zop h
  refine ⟨(kk _ h2).1, fun hF H locs cells slots ls hR hL => ?_⟩
  refine va_get (D := (xD X).1) hF.ex hF.by hF.ts hin hF.ow hF.K (hR.at h1 hlt.1) 0 rfl hc k hk (hF.ts _ q) hsame (v := va_rf (zR m a0 k)) ?_ d ((kk _ h2).2 hF H locs cells slots ls hR hL)
  rw [zFs_at m a0 hlt.2]; unfold zV; rw [hz]; rfl
/-- of a nest mate's private field -/
theorem g_getiN {C ref host : String} {T : u_T} {N ci index k : Nat} {a : Option Nat} {K : Int32 → Option α} (hc : zCl[ci]? = some (C, T, N)) (hin : ∀ w ∈ u_ws C T N, w ∈ lw_all) (hk : k < N) (hz : zF ci k = 0) (q : Cond.fieldLinkNest own index ref (T k).2.1 (T k).2.2.1 host ∈ lw_tbl) (hsame : ∀ x, (xs X).fieldFound? (T k).1 (T k).2.1 (T k).2.2.1 = some x → (xs X).fieldFound? ref (T k).2.1 (T k).2.2.1 = some x) (hlt : ci < 100 ∧ k < zN ci) (d : decode cc pc = .ok (.getfield index, 3)) (h : (zgi g m ci k a).bind K = some fin) (kk : ∀ v, K v = some fin → zG X cc nL own mn fr lo (pc + 3) L (.int v :: st) g m) : zG X cc nL own mn fr lo pc L (va_rf a :: st) g m := by
  obtain ⟨a0, rfl, h1, h2⟩ := zop h
  refine ⟨(kk _ h2).1, fun hF H locs cells slots ls hR hL => ?_⟩
  refine va_getN (D := (xD X).1) hF.ex hF.by hF.ts hin hF.ow hF.K (hR.at h1 hlt.1) 0 rfl hc k hk (va_Nw.use rfl (hF.N.1 _ _ _ _ _ _ q)) hsame (v := .int (zI m a0 k)) ?_ d ((kk _ h2).2 hF H locs cells slots ls hR hL)
  rw [zFs_at m a0 hlt.2]; unfold zV; rw [hz]; rfl
theorem g_getrN {C ref host : String} {T : u_T} {N ci index k : Nat} {a : Option Nat} {K : Option Nat → Option α} (hc : zCl[ci]? = some (C, T, N)) (hin : ∀ w ∈ u_ws C T N, w ∈ lw_all) (hk : k < N) (hz : zF ci k = 2) (q : Cond.fieldLinkNest own index ref (T k).2.1 (T k).2.2.1 host ∈ lw_tbl) (hsame : ∀ x, (xs X).fieldFound? (T k).1 (T k).2.1 (T k).2.2.1 = some x → (xs X).fieldFound? ref (T k).2.1 (T k).2.2.1 = some x) (hlt : ci < 100 ∧ k < zN ci) (d : decode cc pc = .ok (.getfield index, 3)) (h : (zgr g m ci k a).bind K = some fin) (kk : ∀ v, K v = some fin → zG X cc nL own mn fr lo (pc + 3) L (va_rf v :: st) g m) : zG X cc nL own mn fr lo pc L (va_rf a :: st) g m := by
  obtain ⟨a0, rfl, h1, h2⟩ := zop h
  refine ⟨(kk _ h2).1, fun hF H locs cells slots ls hR hL => ?_⟩
  refine va_getN (D := (xD X).1) hF.ex hF.by hF.ts hin hF.ow hF.K (hR.at h1 hlt.1) 0 rfl hc k hk (va_Nw.use rfl (hF.N.1 _ _ _ _ _ _ q)) hsame (v := va_rf (zR m a0 k)) ?_ d ((kk _ h2).2 hF H locs cells slots ls hR hL)
  rw [zFs_at m a0 hlt.2]; unfold zV; rw [hz]; rfl
end
